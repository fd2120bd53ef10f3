/-! java/lang/Throwable -/
set_option maxRecDepth 100000
def RJ0 : String := "java/lang/Throwable"
def TJ0 : u_T := fun k => match k with
  | 0 => ("java/lang/Throwable", "cause", "Ljava/lang/Throwable;", false)
  | 1 => ("java/lang/Throwable", "stackTrace", "[Ljava/lang/StackTraceElement;", false)
  | 2 => ("java/lang/Throwable", "suppressedExceptions", "Ljava/util/List;", false)
  | 3 => ("java/lang/Throwable", "detailMessage", "Ljava/lang/String;", false)
  | _ => ("java/lang/Throwable", "backtrace", "Ljava/lang/Object;", false)
def tyJ0 : Nat → FieldType := fun k => match k with
  | 0 => .object "java/lang/Throwable"
  | 1 => .array (.object "java/lang/StackTraceElement")
  | 2 => .object "java/util/List"
  | 3 => .object "java/lang/String"
  | _ => .object "java/lang/Object"
abbrev wsJ00 : List Cond := u_ws RJ0 TJ0 5
theorem nmJ0 : ∀ a, a < 5 → ∀ b, b < 5 → a ≠ b → (TJ0 a).2.1 ≠ (TJ0 b).2.1 := by decide +kernel
theorem tyJ0_ok : ∀ k, k < 5 → parseFieldDescriptor (TJ0 k).2.2.1 = some (tyJ0 k) := by decide +kernel
abbrev cJ0_init : ByteArray := prog_47_method_2_code
def yJ0_init : MethodName := ⟨RJ0, "<init>", "(Ljava/lang/String;)V"⟩
def dkwJ0_init_1 : List UInt8 := [182, 0, 27, 87, 42, 43, 181, 0, 31, 177]
abbrev dktJ0_init_1 : List UInt8 := dkwJ0_init_1 ++ []
def dkwJ0_init_0 : List UInt8 := [42, 183, 0, 1, 42, 42, 181, 0, 7, 42, 178, 0, 13, 181, 0, 17, 42, 178, 0, 20, 181, 0, 24, 42]
abbrev dktJ0_init_0 : List UInt8 := dkwJ0_init_0 ++ dktJ0_init_1
theorem dksJ0_init_0 : cJ0_init.data.toList.drop 0 = dktJ0_init_0 := by decide +kernel
theorem dksJ0_init_1 : cJ0_init.data.toList.drop 24 = dktJ0_init_1 := dk_seg dksJ0_init_0 24 rfl rfl
theorem dJ0_init_0 : decode cJ0_init 0 = .ok (.aload_n 0, 1) := dk_42 (dk_at dksJ0_init_0 0 rfl rfl)
theorem dJ0_init_1 : decode cJ0_init 1 = .ok (.invokespecial 1, 3) := dk_183 0 1 (dk_at dksJ0_init_0 1 rfl rfl)
theorem dJ0_init_4 : decode cJ0_init 4 = .ok (.aload_n 0, 1) := dk_42 (dk_at dksJ0_init_0 4 rfl rfl)
theorem dJ0_init_5 : decode cJ0_init 5 = .ok (.aload_n 0, 1) := dk_42 (dk_at dksJ0_init_0 5 rfl rfl)
theorem dJ0_init_6 : decode cJ0_init 6 = .ok (.putfield 7, 3) := dk_181 0 7 (dk_at dksJ0_init_0 6 rfl rfl)
theorem dJ0_init_9 : decode cJ0_init 9 = .ok (.aload_n 0, 1) := dk_42 (dk_at dksJ0_init_0 9 rfl rfl)
theorem dJ0_init_10 : decode cJ0_init 10 = .ok (.getstatic 13, 3) := dk_178 0 13 (dk_at dksJ0_init_0 10 rfl rfl)
theorem dJ0_init_13 : decode cJ0_init 13 = .ok (.putfield 17, 3) := dk_181 0 17 (dk_at dksJ0_init_0 13 rfl rfl)
theorem dJ0_init_16 : decode cJ0_init 16 = .ok (.aload_n 0, 1) := dk_42 (dk_at dksJ0_init_0 16 rfl rfl)
theorem dJ0_init_17 : decode cJ0_init 17 = .ok (.getstatic 20, 3) := dk_178 0 20 (dk_at dksJ0_init_0 17 rfl rfl)
theorem dJ0_init_20 : decode cJ0_init 20 = .ok (.putfield 24, 3) := dk_181 0 24 (dk_at dksJ0_init_0 20 rfl rfl)
theorem dJ0_init_23 : decode cJ0_init 23 = .ok (.aload_n 0, 1) := dk_42 (dk_at dksJ0_init_0 23 rfl rfl)
theorem dJ0_init_24 : decode cJ0_init 24 = .ok (.invokevirtual 27, 3) := dk_182 0 27 (dk_at dksJ0_init_1 0 rfl rfl)
theorem dJ0_init_27 : decode cJ0_init 27 = .ok (.pop, 1) := dk_87 (dk_at dksJ0_init_1 3 rfl rfl)
theorem dJ0_init_28 : decode cJ0_init 28 = .ok (.aload_n 0, 1) := dk_42 (dk_at dksJ0_init_1 4 rfl rfl)
theorem dJ0_init_29 : decode cJ0_init 29 = .ok (.aload_n 1, 1) := dk_43 (dk_at dksJ0_init_1 5 rfl rfl)
theorem dJ0_init_30 : decode cJ0_init 30 = .ok (.putfield 31, 3) := dk_181 0 31 (dk_at dksJ0_init_1 6 rfl rfl)
theorem dJ0_init_33 : decode cJ0_init 33 = .ok (.return_, 1) := dk_177 (dk_at dksJ0_init_1 9 rfl rfl)
abbrev cJ0_init_2 : ByteArray := prog_47_method_1_code
def yJ0_init_2 : MethodName := ⟨RJ0, "<init>", "()V"⟩
def dkwJ0_init_2_1 : List UInt8 := [182, 0, 27, 87, 177]
abbrev dktJ0_init_2_1 : List UInt8 := dkwJ0_init_2_1 ++ []
def dkwJ0_init_2_0 : List UInt8 := [42, 183, 0, 1, 42, 42, 181, 0, 7, 42, 178, 0, 13, 181, 0, 17, 42, 178, 0, 20, 181, 0, 24, 42]
abbrev dktJ0_init_2_0 : List UInt8 := dkwJ0_init_2_0 ++ dktJ0_init_2_1
theorem dksJ0_init_2_0 : cJ0_init_2.data.toList.drop 0 = dktJ0_init_2_0 := by decide +kernel
theorem dksJ0_init_2_1 : cJ0_init_2.data.toList.drop 24 = dktJ0_init_2_1 := dk_seg dksJ0_init_2_0 24 rfl rfl
theorem dJ0_init_2_0 : decode cJ0_init_2 0 = .ok (.aload_n 0, 1) := dk_42 (dk_at dksJ0_init_2_0 0 rfl rfl)
theorem dJ0_init_2_1 : decode cJ0_init_2 1 = .ok (.invokespecial 1, 3) := dk_183 0 1 (dk_at dksJ0_init_2_0 1 rfl rfl)
theorem dJ0_init_2_4 : decode cJ0_init_2 4 = .ok (.aload_n 0, 1) := dk_42 (dk_at dksJ0_init_2_0 4 rfl rfl)
theorem dJ0_init_2_5 : decode cJ0_init_2 5 = .ok (.aload_n 0, 1) := dk_42 (dk_at dksJ0_init_2_0 5 rfl rfl)
theorem dJ0_init_2_6 : decode cJ0_init_2 6 = .ok (.putfield 7, 3) := dk_181 0 7 (dk_at dksJ0_init_2_0 6 rfl rfl)
theorem dJ0_init_2_9 : decode cJ0_init_2 9 = .ok (.aload_n 0, 1) := dk_42 (dk_at dksJ0_init_2_0 9 rfl rfl)
theorem dJ0_init_2_10 : decode cJ0_init_2 10 = .ok (.getstatic 13, 3) := dk_178 0 13 (dk_at dksJ0_init_2_0 10 rfl rfl)
theorem dJ0_init_2_13 : decode cJ0_init_2 13 = .ok (.putfield 17, 3) := dk_181 0 17 (dk_at dksJ0_init_2_0 13 rfl rfl)
theorem dJ0_init_2_16 : decode cJ0_init_2 16 = .ok (.aload_n 0, 1) := dk_42 (dk_at dksJ0_init_2_0 16 rfl rfl)
theorem dJ0_init_2_17 : decode cJ0_init_2 17 = .ok (.getstatic 20, 3) := dk_178 0 20 (dk_at dksJ0_init_2_0 17 rfl rfl)
theorem dJ0_init_2_20 : decode cJ0_init_2 20 = .ok (.putfield 24, 3) := dk_181 0 24 (dk_at dksJ0_init_2_0 20 rfl rfl)
theorem dJ0_init_2_23 : decode cJ0_init_2 23 = .ok (.aload_n 0, 1) := dk_42 (dk_at dksJ0_init_2_0 23 rfl rfl)
theorem dJ0_init_2_24 : decode cJ0_init_2 24 = .ok (.invokevirtual 27, 3) := dk_182 0 27 (dk_at dksJ0_init_2_1 0 rfl rfl)
theorem dJ0_init_2_27 : decode cJ0_init_2 27 = .ok (.pop, 1) := dk_87 (dk_at dksJ0_init_2_1 3 rfl rfl)
theorem dJ0_init_2_28 : decode cJ0_init_2 28 = .ok (.return_, 1) := dk_177 (dk_at dksJ0_init_2_1 4 rfl rfl)
theorem q86 : (Jvm.Cond.initialized "java/lang/Throwable") ∈ lw_all := lw_g (lw_at lw_m1 5 rfl) rfl
theorem q301 : (Jvm.Cond.instanceMethod ({ cls := "java/lang/Throwable", name := "<init>", desc := "(Ljava/lang/String;)V" } : Jvm.MethodName)) ∈ lw_all := lw_g (lw_at lw_m1 220 rfl) rfl
theorem q302 : (Jvm.Cond.code ({ cls := "java/lang/Throwable", name := "<init>", desc := "(Ljava/lang/String;)V" } : Jvm.MethodName) prog_47_method_2_code (2 : Nat) (Option.none : Option Jvm.ClassFile.FieldType)) ∈ lw_all := lw_g (lw_at lw_m1 221 rfl) rfl
theorem q303 : (Jvm.Cond.methodLink "java/lang/Throwable" (1 : Nat) ({ cls := "java/lang/Object", name := "<init>", desc := "()V" } : Jvm.MethodName)) ∈ lw_all := lw_g (lw_at lw_m1 222 rfl) rfl
theorem q304 : (Jvm.Cond.fieldLink "java/lang/Throwable" (13 : Nat) "java/lang/Throwable" "UNASSIGNED_STACK" "[Ljava/lang/StackTraceElement;") ∈ lw_all := lw_g (lw_at lw_m1 223 rfl) rfl
theorem q305 : (Jvm.Cond.laysStatic "java/lang/Throwable" "UNASSIGNED_STACK" "[Ljava/lang/StackTraceElement;") ∈ lw_tbl := lw_at lw_m1 224 rfl
theorem q306 : (Jvm.Cond.fieldLink "java/lang/Throwable" (20 : Nat) "java/lang/Throwable" "SUPPRESSED_SENTINEL" "Ljava/util/List;") ∈ lw_all := lw_g (lw_at lw_m1 225 rfl) rfl
theorem q307 : (Jvm.Cond.laysStatic "java/lang/Throwable" "SUPPRESSED_SENTINEL" "Ljava/util/List;") ∈ lw_tbl := lw_at lw_m1 226 rfl
theorem q308 : (Jvm.Cond.methodLink "java/lang/Throwable" (27 : Nat) ({ cls := "java/lang/Throwable", name := "fillInStackTrace", desc := "()Ljava/lang/Throwable;" } : Jvm.MethodName)) ∈ lw_all := lw_g (lw_at lw_m1 227 rfl) rfl
theorem q309 : (Jvm.Cond.instanceMethod ({ cls := "java/lang/Throwable", name := "fillInStackTrace", desc := "()Ljava/lang/Throwable;" } : Jvm.MethodName)) ∈ lw_all := lw_g (lw_at lw_m1 228 rfl) rfl
theorem q310 : (Jvm.Cond.sameMethod "java/lang/Throwable" "java/lang/Throwable" "fillInStackTrace" "()Ljava/lang/Throwable;") ∈ lw_all := lw_g (lw_at lw_m1 229 rfl) rfl
theorem q324 : (Jvm.Cond.declares ({ cls := "java/lang/Throwable", name := "fillInStackTrace", desc := "()Ljava/lang/Throwable;" } : Jvm.MethodName)) ∈ lw_tbl := lw_at lw_m2 3 rfl
theorem q328 : (Jvm.Cond.codeSync ({ cls := "java/lang/Throwable", name := "fillInStackTrace", desc := "()Ljava/lang/Throwable;" } : Jvm.MethodName) prog_47_method_18_code (1 : Nat) (Option.some (Jvm.ClassFile.FieldType.object "java/lang/Throwable"))) ∈ lw_all := lw_g (lw_at lw_m2 7 rfl) rfl
theorem q329 : (Jvm.Cond.methodLink "java/lang/Throwable" (202 : Nat) ({ cls := "java/lang/Throwable", name := "fillInStackTrace", desc := "(I)Ljava/lang/Throwable;" } : Jvm.MethodName)) ∈ lw_all := lw_g (lw_at lw_m2 8 rfl) rfl
theorem q330 : (Jvm.Cond.privateMethod ({ cls := "java/lang/Throwable", name := "fillInStackTrace", desc := "(I)Ljava/lang/Throwable;" } : Jvm.MethodName)) ∈ lw_tbl := lw_at lw_m2 9 rfl
theorem q331 : (Jvm.Cond.instanceMethod ({ cls := "java/lang/Throwable", name := "fillInStackTrace", desc := "(I)Ljava/lang/Throwable;" } : Jvm.MethodName)) ∈ lw_all := lw_g (lw_at lw_m2 10 rfl) rfl
theorem q332 : (Jvm.Cond.instantiable "java/lang/Throwable" (6 : Nat)) ∈ lw_all := lw_g (lw_at lw_m2 11 rfl) rfl
theorem q333 : (Jvm.Cond.native ({ cls := "java/lang/Throwable", name := "fillInStackTrace", desc := "(I)Ljava/lang/Throwable;" } : Jvm.MethodName)) ∈ lw_all := lw_g (lw_at lw_m2 12 rfl) rfl
theorem q334 : (Jvm.Cond.fieldLink "java/lang/Throwable" (198 : Nat) "java/lang/Throwable" "backtrace" "Ljava/lang/Object;") ∈ lw_all := lw_g (lw_at lw_m2 13 rfl) rfl
theorem q335 : (Jvm.Cond.fieldLink "java/lang/Throwable" (31 : Nat) "java/lang/Throwable" "detailMessage" "Ljava/lang/String;") ∈ lw_all := lw_g (lw_at lw_m2 14 rfl) rfl
theorem q336 : (Jvm.Cond.fieldLink "java/lang/Throwable" (7 : Nat) "java/lang/Throwable" "cause" "Ljava/lang/Throwable;") ∈ lw_all := lw_g (lw_at lw_m2 15 rfl) rfl
theorem q337 : (Jvm.Cond.fieldLink "java/lang/Throwable" (17 : Nat) "java/lang/Throwable" "stackTrace" "[Ljava/lang/StackTraceElement;") ∈ lw_all := lw_g (lw_at lw_m2 16 rfl) rfl
theorem q338 : (Jvm.Cond.fieldLink "java/lang/Throwable" (24 : Nat) "java/lang/Throwable" "suppressedExceptions" "Ljava/util/List;") ∈ lw_all := lw_g (lw_at lw_m2 17 rfl) rfl
theorem q340 : (Jvm.Cond.soleField "java/lang/Throwable" "backtrace") ∈ lw_all := lw_g (lw_at lw_m2 19 rfl) rfl
theorem q342 : (Jvm.Cond.soleField "java/lang/Throwable" "detailMessage") ∈ lw_all := lw_g (lw_at lw_m2 21 rfl) rfl
theorem q344 : (Jvm.Cond.soleField "java/lang/Throwable" "cause") ∈ lw_all := lw_g (lw_at lw_m2 23 rfl) rfl
theorem q346 : (Jvm.Cond.soleField "java/lang/Throwable" "stackTrace") ∈ lw_all := lw_g (lw_at lw_m2 25 rfl) rfl
theorem q348 : (Jvm.Cond.soleField "java/lang/Throwable" "depth") ∈ lw_all := lw_g (lw_at lw_m2 27 rfl) rfl
theorem q350 : (Jvm.Cond.soleField "java/lang/Throwable" "suppressedExceptions") ∈ lw_all := lw_g (lw_at lw_m2 29 rfl) rfl
theorem q357 : (Jvm.Cond.declares ({ cls := "java/lang/Throwable", name := "<init>", desc := "()V" } : Jvm.MethodName)) ∈ lw_tbl := lw_at lw_m2 36 rfl
theorem q358 : (Jvm.Cond.declares ({ cls := "java/lang/Throwable", name := "<init>", desc := "(Ljava/lang/String;)V" } : Jvm.MethodName)) ∈ lw_tbl := lw_at lw_m2 37 rfl
theorem q360 : (Jvm.Cond.lays "java/lang/Throwable" "java/lang/Throwable" "cause" "Ljava/lang/Throwable;") ∈ lw_all := lw_g (lw_at lw_m2 39 rfl) rfl
theorem q361 : (Jvm.Cond.lays "java/lang/Throwable" "java/lang/Throwable" "stackTrace" "[Ljava/lang/StackTraceElement;") ∈ lw_all := lw_g (lw_at lw_m2 40 rfl) rfl
theorem q362 : (Jvm.Cond.lays "java/lang/Throwable" "java/lang/Throwable" "suppressedExceptions" "Ljava/util/List;") ∈ lw_all := lw_g (lw_at lw_m2 41 rfl) rfl
theorem q363 : (Jvm.Cond.lays "java/lang/Throwable" "java/lang/Throwable" "detailMessage" "Ljava/lang/String;") ∈ lw_all := lw_g (lw_at lw_m2 42 rfl) rfl
theorem q364 : (Jvm.Cond.lays "java/lang/Throwable" "java/lang/Throwable" "backtrace" "Ljava/lang/Object;") ∈ lw_all := lw_g (lw_at lw_m2 43 rfl) rfl
theorem q365 : (Jvm.Cond.fieldLink "java/lang/Throwable" (198 : Nat) "java/lang/Throwable" "backtrace" "Ljava/lang/Object;") ∈ lw_all := lw_g (lw_at lw_m2 44 rfl) rfl
theorem q366 : (Jvm.Cond.superclass "java/lang/Throwable" "java/lang/Object") ∈ lw_all := lw_g (lw_at lw_m2 45 rfl) rfl
theorem q367 : (Jvm.Cond.instanceMethod ({ cls := "java/lang/Throwable", name := "<init>", desc := "()V" } : Jvm.MethodName)) ∈ lw_all := lw_g (lw_at lw_m2 46 rfl) rfl
theorem q368 : (Jvm.Cond.code ({ cls := "java/lang/Throwable", name := "<init>", desc := "()V" } : Jvm.MethodName) prog_47_method_1_code (1 : Nat) (Option.none : Option Jvm.ClassFile.FieldType)) ∈ lw_all := lw_g (lw_at lw_m2 47 rfl) rfl
theorem q1990 : (Jvm.Cond.sameMethod "java/lang/Throwable" "java/lang/Throwable" "fillInStackTrace" "(I)Ljava/lang/Throwable;") ∈ lw_all := lw_g (lw_at lw_m8 229 rfl) rfl
theorem in_J0 : ∀ w ∈ wsJ00, w ∈ lw_all := lw_in wsJ00 [360, 361, 362, 363, 364] (by decide +kernel) (by decide +kernel)

/-! java/lang/Exception -/
set_option maxRecDepth 100000
def RJ1 : String := "java/lang/Exception"
abbrev cJ1_init : ByteArray := prog_36_method_2_code
def yJ1_init : MethodName := ⟨RJ1, "<init>", "(Ljava/lang/String;)V"⟩
def dkwJ1_init_0 : List UInt8 := [42, 43, 183, 0, 7, 177]
abbrev dktJ1_init_0 : List UInt8 := dkwJ1_init_0 ++ []
theorem dksJ1_init_0 : cJ1_init.data.toList.drop 0 = dktJ1_init_0 := by decide +kernel
theorem dJ1_init_0 : decode cJ1_init 0 = .ok (.aload_n 0, 1) := dk_42 (dk_at dksJ1_init_0 0 rfl rfl)
theorem dJ1_init_1 : decode cJ1_init 1 = .ok (.aload_n 1, 1) := dk_43 (dk_at dksJ1_init_0 1 rfl rfl)
theorem dJ1_init_2 : decode cJ1_init 2 = .ok (.invokespecial 7, 3) := dk_183 0 7 (dk_at dksJ1_init_0 2 rfl rfl)
theorem dJ1_init_5 : decode cJ1_init 5 = .ok (.return_, 1) := dk_177 (dk_at dksJ1_init_0 5 rfl rfl)
abbrev cJ1_init_2 : ByteArray := prog_36_method_1_code
def yJ1_init_2 : MethodName := ⟨RJ1, "<init>", "()V"⟩
theorem dJ1_init_2_0 : decode cJ1_init_2 0 = .ok (.aload_n 0, 1) := by decide +kernel
theorem dJ1_init_2_1 : decode cJ1_init_2 1 = .ok (.invokespecial 1, 3) := by decide +kernel
theorem dJ1_init_2_4 : decode cJ1_init_2 4 = .ok (.return_, 1) := by decide +kernel
theorem q87 : (Jvm.Cond.initialized "java/lang/Exception") ∈ lw_all := lw_g (lw_at lw_m1 6 rfl) rfl
theorem q298 : (Jvm.Cond.instanceMethod ({ cls := "java/lang/Exception", name := "<init>", desc := "(Ljava/lang/String;)V" } : Jvm.MethodName)) ∈ lw_all := lw_g (lw_at lw_m1 217 rfl) rfl
theorem q299 : (Jvm.Cond.code ({ cls := "java/lang/Exception", name := "<init>", desc := "(Ljava/lang/String;)V" } : Jvm.MethodName) prog_36_method_2_code (2 : Nat) (Option.none : Option Jvm.ClassFile.FieldType)) ∈ lw_all := lw_g (lw_at lw_m1 218 rfl) rfl
theorem q300 : (Jvm.Cond.methodLink "java/lang/Exception" (7 : Nat) ({ cls := "java/lang/Throwable", name := "<init>", desc := "(Ljava/lang/String;)V" } : Jvm.MethodName)) ∈ lw_all := lw_g (lw_at lw_m1 219 rfl) rfl
theorem q327 : (Jvm.Cond.superclass "java/lang/Exception" "java/lang/Throwable") ∈ lw_all := lw_g (lw_at lw_m2 6 rfl) rfl
theorem q355 : (Jvm.Cond.declares ({ cls := "java/lang/Exception", name := "<init>", desc := "()V" } : Jvm.MethodName)) ∈ lw_tbl := lw_at lw_m2 34 rfl
theorem q356 : (Jvm.Cond.declares ({ cls := "java/lang/Exception", name := "<init>", desc := "(Ljava/lang/String;)V" } : Jvm.MethodName)) ∈ lw_tbl := lw_at lw_m2 35 rfl
theorem q381 : (Jvm.Cond.instanceMethod ({ cls := "java/lang/Exception", name := "<init>", desc := "()V" } : Jvm.MethodName)) ∈ lw_all := lw_g (lw_at lw_m2 60 rfl) rfl
theorem q382 : (Jvm.Cond.code ({ cls := "java/lang/Exception", name := "<init>", desc := "()V" } : Jvm.MethodName) prog_36_method_1_code (1 : Nat) (Option.none : Option Jvm.ClassFile.FieldType)) ∈ lw_all := lw_g (lw_at lw_m2 61 rfl) rfl
theorem q383 : (Jvm.Cond.methodLink "java/lang/Exception" (1 : Nat) ({ cls := "java/lang/Throwable", name := "<init>", desc := "()V" } : Jvm.MethodName)) ∈ lw_all := lw_g (lw_at lw_m2 62 rfl) rfl

/-! java/lang/RuntimeException -/
set_option maxRecDepth 100000
def RJ2 : String := "java/lang/RuntimeException"
abbrev cJ2_init : ByteArray := prog_42_method_2_code
def yJ2_init : MethodName := ⟨RJ2, "<init>", "(Ljava/lang/String;)V"⟩
def dkwJ2_init_0 : List UInt8 := [42, 43, 183, 0, 7, 177]
abbrev dktJ2_init_0 : List UInt8 := dkwJ2_init_0 ++ []
theorem dksJ2_init_0 : cJ2_init.data.toList.drop 0 = dktJ2_init_0 := by decide +kernel
theorem dJ2_init_0 : decode cJ2_init 0 = .ok (.aload_n 0, 1) := dk_42 (dk_at dksJ2_init_0 0 rfl rfl)
theorem dJ2_init_1 : decode cJ2_init 1 = .ok (.aload_n 1, 1) := dk_43 (dk_at dksJ2_init_0 1 rfl rfl)
theorem dJ2_init_2 : decode cJ2_init 2 = .ok (.invokespecial 7, 3) := dk_183 0 7 (dk_at dksJ2_init_0 2 rfl rfl)
theorem dJ2_init_5 : decode cJ2_init 5 = .ok (.return_, 1) := dk_177 (dk_at dksJ2_init_0 5 rfl rfl)
abbrev cJ2_init_2 : ByteArray := prog_42_method_1_code
def yJ2_init_2 : MethodName := ⟨RJ2, "<init>", "()V"⟩
theorem dJ2_init_2_0 : decode cJ2_init_2 0 = .ok (.aload_n 0, 1) := by decide +kernel
theorem dJ2_init_2_1 : decode cJ2_init_2 1 = .ok (.invokespecial 1, 3) := by decide +kernel
theorem dJ2_init_2_4 : decode cJ2_init_2 4 = .ok (.return_, 1) := by decide +kernel
theorem q88 : (Jvm.Cond.initialized "java/lang/RuntimeException") ∈ lw_all := lw_g (lw_at lw_m1 7 rfl) rfl
theorem q295 : (Jvm.Cond.instanceMethod ({ cls := "java/lang/RuntimeException", name := "<init>", desc := "(Ljava/lang/String;)V" } : Jvm.MethodName)) ∈ lw_all := lw_g (lw_at lw_m1 214 rfl) rfl
theorem q296 : (Jvm.Cond.code ({ cls := "java/lang/RuntimeException", name := "<init>", desc := "(Ljava/lang/String;)V" } : Jvm.MethodName) prog_42_method_2_code (2 : Nat) (Option.none : Option Jvm.ClassFile.FieldType)) ∈ lw_all := lw_g (lw_at lw_m1 215 rfl) rfl
theorem q297 : (Jvm.Cond.methodLink "java/lang/RuntimeException" (7 : Nat) ({ cls := "java/lang/Exception", name := "<init>", desc := "(Ljava/lang/String;)V" } : Jvm.MethodName)) ∈ lw_all := lw_g (lw_at lw_m1 216 rfl) rfl
theorem q323 : (Jvm.Cond.sameMethod "java/lang/RuntimeException" "java/lang/Throwable" "fillInStackTrace" "()Ljava/lang/Throwable;") ∈ lw_all := lw_g (lw_at lw_m2 2 rfl) rfl
theorem q326 : (Jvm.Cond.superclass "java/lang/RuntimeException" "java/lang/Exception") ∈ lw_all := lw_g (lw_at lw_m2 5 rfl) rfl
theorem q353 : (Jvm.Cond.declares ({ cls := "java/lang/RuntimeException", name := "<init>", desc := "()V" } : Jvm.MethodName)) ∈ lw_tbl := lw_at lw_m2 32 rfl
theorem q354 : (Jvm.Cond.declares ({ cls := "java/lang/RuntimeException", name := "<init>", desc := "(Ljava/lang/String;)V" } : Jvm.MethodName)) ∈ lw_tbl := lw_at lw_m2 33 rfl
theorem q378 : (Jvm.Cond.instanceMethod ({ cls := "java/lang/RuntimeException", name := "<init>", desc := "()V" } : Jvm.MethodName)) ∈ lw_all := lw_g (lw_at lw_m2 57 rfl) rfl
theorem q379 : (Jvm.Cond.code ({ cls := "java/lang/RuntimeException", name := "<init>", desc := "()V" } : Jvm.MethodName) prog_42_method_1_code (1 : Nat) (Option.none : Option Jvm.ClassFile.FieldType)) ∈ lw_all := lw_g (lw_at lw_m2 58 rfl) rfl
theorem q380 : (Jvm.Cond.methodLink "java/lang/RuntimeException" (1 : Nat) ({ cls := "java/lang/Exception", name := "<init>", desc := "()V" } : Jvm.MethodName)) ∈ lw_all := lw_g (lw_at lw_m2 59 rfl) rfl
theorem q398 : (Jvm.Cond.castable "java/lang/RuntimeException" "java/lang/Throwable") ∈ lw_tbl := lw_at lw_m2 77 rfl

/-! java/lang/ClassCastException -/
set_option maxRecDepth 100000
def RJ3 : String := "java/lang/ClassCastException"
def TJ3 : u_T := fun k => match k with
  | 0 => ("java/lang/Throwable", "backtrace", "Ljava/lang/Object;", false)
  | 1 => ("java/lang/Throwable", "detailMessage", "Ljava/lang/String;", false)
  | 2 => ("java/lang/Throwable", "cause", "Ljava/lang/Throwable;", false)
  | 3 => ("java/lang/Throwable", "stackTrace", "[Ljava/lang/StackTraceElement;", false)
  | 4 => ("java/lang/Throwable", "depth", "I", false)
  | _ => ("java/lang/Throwable", "suppressedExceptions", "Ljava/util/List;", false)
def tyJ3 : Nat → FieldType := fun k => match k with
  | 0 => .object "java/lang/Object"
  | 1 => .object "java/lang/String"
  | 2 => .object "java/lang/Throwable"
  | 3 => .array (.object "java/lang/StackTraceElement")
  | 4 => .int
  | _ => .object "java/util/List"
abbrev wsJ30 : List Cond := u_ws RJ3 TJ3 6
theorem nmJ3 : ∀ a, a < 6 → ∀ b, b < 6 → a ≠ b → (TJ3 a).2.1 ≠ (TJ3 b).2.1 := by decide +kernel
theorem tyJ3_ok : ∀ k, k < 6 → parseFieldDescriptor (TJ3 k).2.2.1 = some (tyJ3 k) := by decide +kernel
abbrev cJ3_init : ByteArray := prog_35_method_2_code
def yJ3_init : MethodName := ⟨RJ3, "<init>", "(Ljava/lang/String;)V"⟩
def dkwJ3_init_0 : List UInt8 := [42, 43, 183, 0, 7, 177]
abbrev dktJ3_init_0 : List UInt8 := dkwJ3_init_0 ++ []
theorem dksJ3_init_0 : cJ3_init.data.toList.drop 0 = dktJ3_init_0 := by decide +kernel
theorem dJ3_init_0 : decode cJ3_init 0 = .ok (.aload_n 0, 1) := dk_42 (dk_at dksJ3_init_0 0 rfl rfl)
theorem dJ3_init_1 : decode cJ3_init 1 = .ok (.aload_n 1, 1) := dk_43 (dk_at dksJ3_init_0 1 rfl rfl)
theorem dJ3_init_2 : decode cJ3_init 2 = .ok (.invokespecial 7, 3) := dk_183 0 7 (dk_at dksJ3_init_0 2 rfl rfl)
theorem dJ3_init_5 : decode cJ3_init 5 = .ok (.return_, 1) := dk_177 (dk_at dksJ3_init_0 5 rfl rfl)
theorem q89 : (Jvm.Cond.initialized "java/lang/ClassCastException") ∈ lw_all := lw_g (lw_at lw_m1 8 rfl) rfl
theorem q291 : (Jvm.Cond.instantiable "java/lang/ClassCastException" (6 : Nat)) ∈ lw_all := lw_g (lw_at lw_m1 210 rfl) rfl
theorem q292 : (Jvm.Cond.instanceMethod ({ cls := "java/lang/ClassCastException", name := "<init>", desc := "(Ljava/lang/String;)V" } : Jvm.MethodName)) ∈ lw_all := lw_g (lw_at lw_m1 211 rfl) rfl
theorem q293 : (Jvm.Cond.code ({ cls := "java/lang/ClassCastException", name := "<init>", desc := "(Ljava/lang/String;)V" } : Jvm.MethodName) prog_35_method_2_code (2 : Nat) (Option.none : Option Jvm.ClassFile.FieldType)) ∈ lw_all := lw_g (lw_at lw_m1 212 rfl) rfl
theorem q294 : (Jvm.Cond.methodLink "java/lang/ClassCastException" (7 : Nat) ({ cls := "java/lang/RuntimeException", name := "<init>", desc := "(Ljava/lang/String;)V" } : Jvm.MethodName)) ∈ lw_all := lw_g (lw_at lw_m1 213 rfl) rfl
theorem q312 : (Jvm.Cond.selects "java/lang/ClassCastException" ({ cls := "java/lang/Throwable", name := "fillInStackTrace", desc := "()Ljava/lang/Throwable;" } : Jvm.MethodName) ({ cls := "java/lang/Throwable", name := "fillInStackTrace", desc := "()Ljava/lang/Throwable;" } : Jvm.MethodName)) ∈ lw_all := lw_g (lw_at lw_m1 231 rfl) rfl
theorem q339 : (Jvm.Cond.lays "java/lang/ClassCastException" "java/lang/Throwable" "backtrace" "Ljava/lang/Object;") ∈ lw_all := lw_g (lw_at lw_m2 18 rfl) rfl
theorem q341 : (Jvm.Cond.lays "java/lang/ClassCastException" "java/lang/Throwable" "detailMessage" "Ljava/lang/String;") ∈ lw_all := lw_g (lw_at lw_m2 20 rfl) rfl
theorem q343 : (Jvm.Cond.lays "java/lang/ClassCastException" "java/lang/Throwable" "cause" "Ljava/lang/Throwable;") ∈ lw_all := lw_g (lw_at lw_m2 22 rfl) rfl
theorem q345 : (Jvm.Cond.lays "java/lang/ClassCastException" "java/lang/Throwable" "stackTrace" "[Ljava/lang/StackTraceElement;") ∈ lw_all := lw_g (lw_at lw_m2 24 rfl) rfl
theorem q347 : (Jvm.Cond.lays "java/lang/ClassCastException" "java/lang/Throwable" "depth" "I") ∈ lw_all := lw_g (lw_at lw_m2 26 rfl) rfl
theorem q349 : (Jvm.Cond.lays "java/lang/ClassCastException" "java/lang/Throwable" "suppressedExceptions" "Ljava/util/List;") ∈ lw_all := lw_g (lw_at lw_m2 28 rfl) rfl
theorem q351 : (Jvm.Cond.superclass "java/lang/ClassCastException" "java/lang/RuntimeException") ∈ lw_all := lw_g (lw_at lw_m2 30 rfl) rfl
theorem q352 : (Jvm.Cond.castable "java/lang/ClassCastException" "java/lang/ClassCastException") ∈ lw_tbl := lw_at lw_m2 31 rfl
theorem q359 : (Jvm.Cond.selects "java/lang/ClassCastException" ({ cls := "java/lang/Throwable", name := "fillInStackTrace", desc := "(I)Ljava/lang/Throwable;" } : Jvm.MethodName) ({ cls := "java/lang/Throwable", name := "fillInStackTrace", desc := "(I)Ljava/lang/Throwable;" } : Jvm.MethodName)) ∈ lw_all := lw_g (lw_at lw_m2 38 rfl) rfl
theorem in_J3 : ∀ w ∈ wsJ30, w ∈ lw_all := lw_in wsJ30 [339, 341, 343, 345, 347, 349] (by decide +kernel) (by decide +kernel)

/-! java/lang/String -/
set_option maxRecDepth 100000
def RJ4 : String := "java/lang/String"
def TJ4 : u_T := fun k => match k with
  | 0 => ("java/lang/String", "value", "[B", true)
  | _ => ("java/lang/String", "coder", "B", true)
def tyJ4 : Nat → FieldType := fun k => match k with
  | 0 => .array .byte
  | _ => .byte
abbrev wsJ40 : List Cond := u_ws RJ4 TJ4 2
theorem nmJ4 : ∀ a, a < 2 → ∀ b, b < 2 → a ≠ b → (TJ4 a).2.1 ≠ (TJ4 b).2.1 := by decide +kernel
theorem tyJ4_ok : ∀ k, k < 2 → parseFieldDescriptor (TJ4 k).2.2.1 = some (tyJ4 k) := by decide +kernel
abbrev cJ4_indexOf : ByteArray := prog_43_method_79_code
def yJ4_indexOf : MethodName := ⟨RJ4, "indexOf", "(I)I"⟩
def dkwJ4_indexOf_0 : List UInt8 := [42, 27, 3, 182, 2, 121, 172]
abbrev dktJ4_indexOf_0 : List UInt8 := dkwJ4_indexOf_0 ++ []
theorem dksJ4_indexOf_0 : cJ4_indexOf.data.toList.drop 0 = dktJ4_indexOf_0 := by decide +kernel
theorem dJ4_indexOf_0 : decode cJ4_indexOf 0 = .ok (.aload_n 0, 1) := dk_42 (dk_at dksJ4_indexOf_0 0 rfl rfl)
theorem dJ4_indexOf_1 : decode cJ4_indexOf 1 = .ok (.iload_n 1, 1) := dk_27 (dk_at dksJ4_indexOf_0 1 rfl rfl)
theorem dJ4_indexOf_2 : decode cJ4_indexOf 2 = .ok (.iconst 0, 1) := dk_3 (dk_at dksJ4_indexOf_0 2 rfl rfl)
theorem dJ4_indexOf_3 : decode cJ4_indexOf 3 = .ok (.invokevirtual 633, 3) := dk_182 2 121 (dk_at dksJ4_indexOf_0 3 rfl rfl)
theorem dJ4_indexOf_6 : decode cJ4_indexOf 6 = .ok (.ireturn, 1) := dk_172 (dk_at dksJ4_indexOf_0 6 rfl rfl)
abbrev cJ4_indexOf_2 : ByteArray := prog_43_method_80_code
def yJ4_indexOf_2 : MethodName := ⟨RJ4, "indexOf", "(II)I"⟩
def dkwJ4_indexOf_2_1 : List UInt8 := [180, 0, 9, 27, 28, 42, 182, 1, 249, 184, 2, 128, 172]
abbrev dktJ4_indexOf_2_1 : List UInt8 := dkwJ4_indexOf_2_1 ++ []
def dkwJ4_indexOf_2_0 : List UInt8 := [42, 182, 1, 236, 153, 0, 19, 42, 180, 0, 9, 27, 28, 42, 182, 1, 249, 184, 2, 125, 167, 0, 16, 42]
abbrev dktJ4_indexOf_2_0 : List UInt8 := dkwJ4_indexOf_2_0 ++ dktJ4_indexOf_2_1
theorem dksJ4_indexOf_2_0 : cJ4_indexOf_2.data.toList.drop 0 = dktJ4_indexOf_2_0 := by decide +kernel
theorem dksJ4_indexOf_2_1 : cJ4_indexOf_2.data.toList.drop 24 = dktJ4_indexOf_2_1 := dk_seg dksJ4_indexOf_2_0 24 rfl rfl
theorem dJ4_indexOf_2_0 : decode cJ4_indexOf_2 0 = .ok (.aload_n 0, 1) := dk_42 (dk_at dksJ4_indexOf_2_0 0 rfl rfl)
theorem dJ4_indexOf_2_1 : decode cJ4_indexOf_2 1 = .ok (.invokevirtual 492, 3) := dk_182 1 236 (dk_at dksJ4_indexOf_2_0 1 rfl rfl)
theorem dJ4_indexOf_2_4 : decode cJ4_indexOf_2 4 = .ok (.ifCond .eq 19, 3) := dk_153 0 19 (dk_at dksJ4_indexOf_2_0 4 rfl rfl)
theorem dJ4_indexOf_2_7 : decode cJ4_indexOf_2 7 = .ok (.aload_n 0, 1) := dk_42 (dk_at dksJ4_indexOf_2_0 7 rfl rfl)
theorem dJ4_indexOf_2_8 : decode cJ4_indexOf_2 8 = .ok (.getfield 9, 3) := dk_180 0 9 (dk_at dksJ4_indexOf_2_0 8 rfl rfl)
theorem dJ4_indexOf_2_11 : decode cJ4_indexOf_2 11 = .ok (.iload_n 1, 1) := dk_27 (dk_at dksJ4_indexOf_2_0 11 rfl rfl)
theorem dJ4_indexOf_2_12 : decode cJ4_indexOf_2 12 = .ok (.iload_n 2, 1) := dk_28 (dk_at dksJ4_indexOf_2_0 12 rfl rfl)
theorem dJ4_indexOf_2_13 : decode cJ4_indexOf_2 13 = .ok (.aload_n 0, 1) := dk_42 (dk_at dksJ4_indexOf_2_0 13 rfl rfl)
theorem dJ4_indexOf_2_14 : decode cJ4_indexOf_2 14 = .ok (.invokevirtual 505, 3) := dk_182 1 249 (dk_at dksJ4_indexOf_2_0 14 rfl rfl)
theorem dJ4_indexOf_2_17 : decode cJ4_indexOf_2 17 = .ok (.invokestatic 637, 3) := dk_184 2 125 (dk_at dksJ4_indexOf_2_0 17 rfl rfl)
theorem dJ4_indexOf_2_20 : decode cJ4_indexOf_2 20 = .ok (.goto 16, 3) := dk_167 0 16 (dk_at dksJ4_indexOf_2_0 20 rfl rfl)
theorem dJ4_indexOf_2_23 : decode cJ4_indexOf_2 23 = .ok (.aload_n 0, 1) := dk_42 (dk_at dksJ4_indexOf_2_0 23 rfl rfl)
theorem dJ4_indexOf_2_24 : decode cJ4_indexOf_2 24 = .ok (.getfield 9, 3) := dk_180 0 9 (dk_at dksJ4_indexOf_2_1 0 rfl rfl)
theorem dJ4_indexOf_2_27 : decode cJ4_indexOf_2 27 = .ok (.iload_n 1, 1) := dk_27 (dk_at dksJ4_indexOf_2_1 3 rfl rfl)
theorem dJ4_indexOf_2_28 : decode cJ4_indexOf_2 28 = .ok (.iload_n 2, 1) := dk_28 (dk_at dksJ4_indexOf_2_1 4 rfl rfl)
theorem dJ4_indexOf_2_29 : decode cJ4_indexOf_2 29 = .ok (.aload_n 0, 1) := dk_42 (dk_at dksJ4_indexOf_2_1 5 rfl rfl)
theorem dJ4_indexOf_2_30 : decode cJ4_indexOf_2 30 = .ok (.invokevirtual 505, 3) := dk_182 1 249 (dk_at dksJ4_indexOf_2_1 6 rfl rfl)
theorem dJ4_indexOf_2_33 : decode cJ4_indexOf_2 33 = .ok (.invokestatic 640, 3) := dk_184 2 128 (dk_at dksJ4_indexOf_2_1 9 rfl rfl)
theorem dJ4_indexOf_2_36 : decode cJ4_indexOf_2 36 = .ok (.ireturn, 1) := dk_172 (dk_at dksJ4_indexOf_2_1 12 rfl rfl)
abbrev cJ4_isLatin1 : ByteArray := prog_43_method_154_code
def yJ4_isLatin1 : MethodName := ⟨RJ4, "isLatin1", "()Z"⟩
def dkwJ4_isLatin1_0 : List UInt8 := [178, 0, 38, 153, 0, 14, 42, 180, 0, 15, 154, 0, 7, 4, 167, 0, 4, 3, 172]
abbrev dktJ4_isLatin1_0 : List UInt8 := dkwJ4_isLatin1_0 ++ []
theorem dksJ4_isLatin1_0 : cJ4_isLatin1.data.toList.drop 0 = dktJ4_isLatin1_0 := by decide +kernel
theorem dJ4_isLatin1_0 : decode cJ4_isLatin1 0 = .ok (.getstatic 38, 3) := dk_178 0 38 (dk_at dksJ4_isLatin1_0 0 rfl rfl)
theorem dJ4_isLatin1_3 : decode cJ4_isLatin1 3 = .ok (.ifCond .eq 14, 3) := dk_153 0 14 (dk_at dksJ4_isLatin1_0 3 rfl rfl)
theorem dJ4_isLatin1_6 : decode cJ4_isLatin1 6 = .ok (.aload_n 0, 1) := dk_42 (dk_at dksJ4_isLatin1_0 6 rfl rfl)
theorem dJ4_isLatin1_7 : decode cJ4_isLatin1 7 = .ok (.getfield 15, 3) := dk_180 0 15 (dk_at dksJ4_isLatin1_0 7 rfl rfl)
theorem dJ4_isLatin1_10 : decode cJ4_isLatin1 10 = .ok (.ifCond .ne 7, 3) := dk_154 0 7 (dk_at dksJ4_isLatin1_0 10 rfl rfl)
theorem dJ4_isLatin1_13 : decode cJ4_isLatin1 13 = .ok (.iconst 1, 1) := dk_4 (dk_at dksJ4_isLatin1_0 13 rfl rfl)
theorem dJ4_isLatin1_14 : decode cJ4_isLatin1 14 = .ok (.goto 4, 3) := dk_167 0 4 (dk_at dksJ4_isLatin1_0 14 rfl rfl)
theorem dJ4_isLatin1_17 : decode cJ4_isLatin1 17 = .ok (.iconst 0, 1) := dk_3 (dk_at dksJ4_isLatin1_0 17 rfl rfl)
theorem dJ4_isLatin1_18 : decode cJ4_isLatin1 18 = .ok (.ireturn, 1) := dk_172 (dk_at dksJ4_isLatin1_0 18 rfl rfl)
abbrev cJ4_length : ByteArray := prog_43_method_54_code
def yJ4_length : MethodName := ⟨RJ4, "length", "()I"⟩
def dkwJ4_length_0 : List UInt8 := [42, 180, 0, 9, 190, 42, 182, 1, 79, 122, 172]
abbrev dktJ4_length_0 : List UInt8 := dkwJ4_length_0 ++ []
theorem dksJ4_length_0 : cJ4_length.data.toList.drop 0 = dktJ4_length_0 := by decide +kernel
theorem dJ4_length_0 : decode cJ4_length 0 = .ok (.aload_n 0, 1) := dk_42 (dk_at dksJ4_length_0 0 rfl rfl)
theorem dJ4_length_1 : decode cJ4_length 1 = .ok (.getfield 9, 3) := dk_180 0 9 (dk_at dksJ4_length_0 1 rfl rfl)
theorem dJ4_length_4 : decode cJ4_length 4 = .ok (.arraylength, 1) := dk_190 (dk_at dksJ4_length_0 4 rfl rfl)
theorem dJ4_length_5 : decode cJ4_length 5 = .ok (.aload_n 0, 1) := dk_42 (dk_at dksJ4_length_0 5 rfl rfl)
theorem dJ4_length_6 : decode cJ4_length 6 = .ok (.invokevirtual 335, 3) := dk_182 1 79 (dk_at dksJ4_length_0 6 rfl rfl)
theorem dJ4_length_9 : decode cJ4_length 9 = .ok (.ishr, 1) := dk_122 (dk_at dksJ4_length_0 9 rfl rfl)
theorem dJ4_length_10 : decode cJ4_length 10 = .ok (.ireturn, 1) := dk_172 (dk_at dksJ4_length_0 10 rfl rfl)
abbrev cJ4_coder : ByteArray := prog_43_method_152_code
def yJ4_coder : MethodName := ⟨RJ4, "coder", "()B"⟩
def dkwJ4_coder_0 : List UInt8 := [178, 0, 38, 153, 0, 10, 42, 180, 0, 15, 167, 0, 4, 4, 172]
abbrev dktJ4_coder_0 : List UInt8 := dkwJ4_coder_0 ++ []
theorem dksJ4_coder_0 : cJ4_coder.data.toList.drop 0 = dktJ4_coder_0 := by decide +kernel
theorem dJ4_coder_0 : decode cJ4_coder 0 = .ok (.getstatic 38, 3) := dk_178 0 38 (dk_at dksJ4_coder_0 0 rfl rfl)
theorem dJ4_coder_3 : decode cJ4_coder 3 = .ok (.ifCond .eq 10, 3) := dk_153 0 10 (dk_at dksJ4_coder_0 3 rfl rfl)
theorem dJ4_coder_6 : decode cJ4_coder 6 = .ok (.aload_n 0, 1) := dk_42 (dk_at dksJ4_coder_0 6 rfl rfl)
theorem dJ4_coder_7 : decode cJ4_coder 7 = .ok (.getfield 15, 3) := dk_180 0 15 (dk_at dksJ4_coder_0 7 rfl rfl)
theorem dJ4_coder_10 : decode cJ4_coder 10 = .ok (.goto 4, 3) := dk_167 0 4 (dk_at dksJ4_coder_0 10 rfl rfl)
theorem dJ4_coder_13 : decode cJ4_coder 13 = .ok (.iconst 1, 1) := dk_4 (dk_at dksJ4_coder_0 13 rfl rfl)
theorem dJ4_coder_14 : decode cJ4_coder 14 = .ok (.ireturn, 1) := dk_172 (dk_at dksJ4_coder_0 14 rfl rfl)
abbrev cJ4_checkBoundsBeginEnd : ByteArray := prog_43_method_158_code
def yJ4_checkBoundsBeginEnd : MethodName := ⟨RJ4, "checkBoundsBeginEnd", "(III)V"⟩
def dkwJ4_checkBoundsBeginEnd_0 : List UInt8 := [26, 27, 28, 178, 4, 29, 184, 4, 38, 87, 177]
abbrev dktJ4_checkBoundsBeginEnd_0 : List UInt8 := dkwJ4_checkBoundsBeginEnd_0 ++ []
theorem dksJ4_checkBoundsBeginEnd_0 : cJ4_checkBoundsBeginEnd.data.toList.drop 0 = dktJ4_checkBoundsBeginEnd_0 := by decide +kernel
theorem dJ4_checkBoundsBeginEnd_0 : decode cJ4_checkBoundsBeginEnd 0 = .ok (.iload_n 0, 1) := dk_26 (dk_at dksJ4_checkBoundsBeginEnd_0 0 rfl rfl)
theorem dJ4_checkBoundsBeginEnd_1 : decode cJ4_checkBoundsBeginEnd 1 = .ok (.iload_n 1, 1) := dk_27 (dk_at dksJ4_checkBoundsBeginEnd_0 1 rfl rfl)
theorem dJ4_checkBoundsBeginEnd_2 : decode cJ4_checkBoundsBeginEnd 2 = .ok (.iload_n 2, 1) := dk_28 (dk_at dksJ4_checkBoundsBeginEnd_0 2 rfl rfl)
theorem dJ4_checkBoundsBeginEnd_3 : decode cJ4_checkBoundsBeginEnd 3 = .ok (.getstatic 1053, 3) := dk_178 4 29 (dk_at dksJ4_checkBoundsBeginEnd_0 3 rfl rfl)
theorem dJ4_checkBoundsBeginEnd_6 : decode cJ4_checkBoundsBeginEnd 6 = .ok (.invokestatic 1062, 3) := dk_184 4 38 (dk_at dksJ4_checkBoundsBeginEnd_0 6 rfl rfl)
theorem dJ4_checkBoundsBeginEnd_9 : decode cJ4_checkBoundsBeginEnd 9 = .ok (.pop, 1) := dk_87 (dk_at dksJ4_checkBoundsBeginEnd_0 9 rfl rfl)
theorem dJ4_checkBoundsBeginEnd_10 : decode cJ4_checkBoundsBeginEnd 10 = .ok (.return_, 1) := dk_177 (dk_at dksJ4_checkBoundsBeginEnd_0 10 rfl rfl)
theorem q90 : (Jvm.Cond.initialized "java/lang/String") ∈ lw_all := lw_g (lw_at lw_m1 9 rfl) rfl
theorem q369 : (Jvm.Cond.instantiable "java/lang/String" (4 : Nat)) ∈ lw_all := lw_g (lw_at lw_m2 48 rfl) rfl
theorem q370 : (Jvm.Cond.laysFinal "java/lang/String" "java/lang/String" "value" "[B") ∈ lw_all := lw_g (lw_at lw_m2 49 rfl) rfl
theorem q371 : (Jvm.Cond.soleField "java/lang/String" "value") ∈ lw_all := lw_g (lw_at lw_m2 50 rfl) rfl
theorem q372 : (Jvm.Cond.laysFinal "java/lang/String" "java/lang/String" "coder" "B") ∈ lw_all := lw_g (lw_at lw_m2 51 rfl) rfl
theorem q373 : (Jvm.Cond.soleField "java/lang/String" "coder") ∈ lw_all := lw_g (lw_at lw_m2 52 rfl) rfl
theorem q614 : (Jvm.Cond.instanceMethod ({ cls := "java/lang/String", name := "indexOf", desc := "(I)I" } : Jvm.MethodName)) ∈ lw_all := lw_g (lw_at lw_m3 53 rfl) rfl
theorem q615 : (Jvm.Cond.selects "java/lang/String" ({ cls := "java/lang/String", name := "indexOf", desc := "(I)I" } : Jvm.MethodName) ({ cls := "java/lang/String", name := "indexOf", desc := "(I)I" } : Jvm.MethodName)) ∈ lw_all := lw_g (lw_at lw_m3 54 rfl) rfl
theorem q616 : (Jvm.Cond.code ({ cls := "java/lang/String", name := "indexOf", desc := "(I)I" } : Jvm.MethodName) prog_43_method_79_code (2 : Nat) (Option.some Jvm.ClassFile.FieldType.int)) ∈ lw_all := lw_g (lw_at lw_m3 55 rfl) rfl
theorem q617 : (Jvm.Cond.methodLink "java/lang/String" (633 : Nat) ({ cls := "java/lang/String", name := "indexOf", desc := "(II)I" } : Jvm.MethodName)) ∈ lw_all := lw_g (lw_at lw_m3 56 rfl) rfl
theorem q618 : (Jvm.Cond.instanceMethod ({ cls := "java/lang/String", name := "indexOf", desc := "(II)I" } : Jvm.MethodName)) ∈ lw_all := lw_g (lw_at lw_m3 57 rfl) rfl
theorem q619 : (Jvm.Cond.selects "java/lang/String" ({ cls := "java/lang/String", name := "indexOf", desc := "(II)I" } : Jvm.MethodName) ({ cls := "java/lang/String", name := "indexOf", desc := "(II)I" } : Jvm.MethodName)) ∈ lw_all := lw_g (lw_at lw_m3 58 rfl) rfl
theorem q620 : (Jvm.Cond.code ({ cls := "java/lang/String", name := "indexOf", desc := "(II)I" } : Jvm.MethodName) prog_43_method_80_code (3 : Nat) (Option.some Jvm.ClassFile.FieldType.int)) ∈ lw_all := lw_g (lw_at lw_m3 59 rfl) rfl
theorem q621 : (Jvm.Cond.methodLink "java/lang/String" (492 : Nat) ({ cls := "java/lang/String", name := "isLatin1", desc := "()Z" } : Jvm.MethodName)) ∈ lw_all := lw_g (lw_at lw_m3 60 rfl) rfl
theorem q622 : (Jvm.Cond.instanceMethod ({ cls := "java/lang/String", name := "isLatin1", desc := "()Z" } : Jvm.MethodName)) ∈ lw_all := lw_g (lw_at lw_m3 61 rfl) rfl
theorem q623 : (Jvm.Cond.selects "java/lang/String" ({ cls := "java/lang/String", name := "isLatin1", desc := "()Z" } : Jvm.MethodName) ({ cls := "java/lang/String", name := "isLatin1", desc := "()Z" } : Jvm.MethodName)) ∈ lw_all := lw_g (lw_at lw_m3 62 rfl) rfl
theorem q624 : (Jvm.Cond.code ({ cls := "java/lang/String", name := "isLatin1", desc := "()Z" } : Jvm.MethodName) prog_43_method_154_code (1 : Nat) (Option.some Jvm.ClassFile.FieldType.boolean)) ∈ lw_all := lw_g (lw_at lw_m3 63 rfl) rfl
theorem q625 : (Jvm.Cond.fieldLink "java/lang/String" (38 : Nat) "java/lang/String" "COMPACT_STRINGS" "Z") ∈ lw_all := lw_g (lw_at lw_m3 64 rfl) rfl
theorem q626 : (Jvm.Cond.laysStatic "java/lang/String" "COMPACT_STRINGS" "Z") ∈ lw_tbl := lw_at lw_m3 65 rfl
theorem q627 : (Jvm.Cond.methodLink "java/lang/String" (505 : Nat) ({ cls := "java/lang/String", name := "length", desc := "()I" } : Jvm.MethodName)) ∈ lw_all := lw_g (lw_at lw_m3 66 rfl) rfl
theorem q628 : (Jvm.Cond.instanceMethod ({ cls := "java/lang/String", name := "length", desc := "()I" } : Jvm.MethodName)) ∈ lw_all := lw_g (lw_at lw_m3 67 rfl) rfl
theorem q629 : (Jvm.Cond.selects "java/lang/String" ({ cls := "java/lang/String", name := "length", desc := "()I" } : Jvm.MethodName) ({ cls := "java/lang/String", name := "length", desc := "()I" } : Jvm.MethodName)) ∈ lw_all := lw_g (lw_at lw_m3 68 rfl) rfl
theorem q630 : (Jvm.Cond.code ({ cls := "java/lang/String", name := "length", desc := "()I" } : Jvm.MethodName) prog_43_method_54_code (1 : Nat) (Option.some Jvm.ClassFile.FieldType.int)) ∈ lw_all := lw_g (lw_at lw_m3 69 rfl) rfl
theorem q631 : (Jvm.Cond.methodLink "java/lang/String" (335 : Nat) ({ cls := "java/lang/String", name := "coder", desc := "()B" } : Jvm.MethodName)) ∈ lw_all := lw_g (lw_at lw_m3 70 rfl) rfl
theorem q632 : (Jvm.Cond.instanceMethod ({ cls := "java/lang/String", name := "coder", desc := "()B" } : Jvm.MethodName)) ∈ lw_all := lw_g (lw_at lw_m3 71 rfl) rfl
theorem q633 : (Jvm.Cond.selects "java/lang/String" ({ cls := "java/lang/String", name := "coder", desc := "()B" } : Jvm.MethodName) ({ cls := "java/lang/String", name := "coder", desc := "()B" } : Jvm.MethodName)) ∈ lw_all := lw_g (lw_at lw_m3 72 rfl) rfl
theorem q634 : (Jvm.Cond.code ({ cls := "java/lang/String", name := "coder", desc := "()B" } : Jvm.MethodName) prog_43_method_152_code (1 : Nat) (Option.some Jvm.ClassFile.FieldType.byte)) ∈ lw_all := lw_g (lw_at lw_m3 73 rfl) rfl
theorem q635 : (Jvm.Cond.methodLink "java/lang/String" (637 : Nat) ({ cls := "java/lang/StringLatin1", name := "indexOf", desc := "([BIII)I" } : Jvm.MethodName)) ∈ lw_all := lw_g (lw_at lw_m3 74 rfl) rfl
theorem q650 : (Jvm.Cond.methodLink "java/lang/String" (640 : Nat) ({ cls := "java/lang/StringUTF16", name := "indexOf", desc := "([BIII)I" } : Jvm.MethodName)) ∈ lw_all := lw_g (lw_at lw_m3 89 rfl) rfl
theorem q666 : (Jvm.Cond.static ({ cls := "java/lang/String", name := "checkBoundsBeginEnd", desc := "(III)V" } : Jvm.MethodName)) ∈ lw_all := lw_g (lw_at lw_m3 105 rfl) rfl
theorem q667 : (Jvm.Cond.code ({ cls := "java/lang/String", name := "checkBoundsBeginEnd", desc := "(III)V" } : Jvm.MethodName) prog_43_method_158_code (3 : Nat) (Option.none : Option Jvm.ClassFile.FieldType)) ∈ lw_all := lw_g (lw_at lw_m3 106 rfl) rfl
theorem q668 : (Jvm.Cond.fieldLink "java/lang/String" (1053 : Nat) "jdk/internal/util/Preconditions" "SIOOBE_FORMATTER" "Ljava/util/function/BiFunction;") ∈ lw_all := lw_g (lw_at lw_m3 107 rfl) rfl
theorem q670 : (Jvm.Cond.methodLink "java/lang/String" (1062 : Nat) ({ cls := "jdk/internal/util/Preconditions", name := "checkFromToIndex", desc := "(IIILjava/util/function/BiFunction;)I" } : Jvm.MethodName)) ∈ lw_all := lw_g (lw_at lw_m3 109 rfl) rfl
theorem q2036 : (Jvm.Cond.fieldLink "java/lang/String" (15 : Nat) "java/lang/String" "coder" "B") ∈ lw_all := lw_g (lw_at lw_m9 35 rfl) rfl
theorem q2037 : (Jvm.Cond.fieldLink "java/lang/String" (9 : Nat) "java/lang/String" "value" "[B") ∈ lw_all := lw_g (lw_at lw_m9 36 rfl) rfl
theorem in_J4 : ∀ w ∈ wsJ40, w ∈ lw_all := lw_in wsJ40 [370, 372] (by decide +kernel) (by decide +kernel)

/-! java/lang/NullPointerException -/
set_option maxRecDepth 100000
def RJ5 : String := "java/lang/NullPointerException"
def TJ5 : u_T := fun k => match k with
  | 0 => ("java/lang/Throwable", "backtrace", "Ljava/lang/Object;", false)
  | 1 => ("java/lang/Throwable", "detailMessage", "Ljava/lang/String;", false)
  | 2 => ("java/lang/Throwable", "cause", "Ljava/lang/Throwable;", false)
  | 3 => ("java/lang/Throwable", "stackTrace", "[Ljava/lang/StackTraceElement;", false)
  | 4 => ("java/lang/Throwable", "depth", "I", false)
  | 5 => ("java/lang/Throwable", "suppressedExceptions", "Ljava/util/List;", false)
  | 6 => ("java/lang/NullPointerException", "extendedMessageState", "I", false)
  | _ => ("java/lang/NullPointerException", "extendedMessage", "Ljava/lang/String;", false)
def tyJ5 : Nat → FieldType := fun k => match k with
  | 0 => .object "java/lang/Object"
  | 1 => .object "java/lang/String"
  | 2 => .object "java/lang/Throwable"
  | 3 => .array (.object "java/lang/StackTraceElement")
  | 4 => .int
  | 5 => .object "java/util/List"
  | 6 => .int
  | _ => .object "java/lang/String"
abbrev wsJ50 : List Cond := u_ws RJ5 TJ5 8
theorem nmJ5 : ∀ a, a < 8 → ∀ b, b < 8 → a ≠ b → (TJ5 a).2.1 ≠ (TJ5 b).2.1 := by decide +kernel
theorem tyJ5_ok : ∀ k, k < 8 → parseFieldDescriptor (TJ5 k).2.2.1 = some (tyJ5 k) := by decide +kernel
abbrev cJ5_init : ByteArray := prog_41_method_1_code
def yJ5_init : MethodName := ⟨RJ5, "<init>", "()V"⟩
theorem dJ5_init_0 : decode cJ5_init 0 = .ok (.aload_n 0, 1) := by decide +kernel
theorem dJ5_init_1 : decode cJ5_init 1 = .ok (.invokespecial 1, 3) := by decide +kernel
theorem dJ5_init_4 : decode cJ5_init 4 = .ok (.return_, 1) := by decide +kernel
theorem q91 : (Jvm.Cond.initialized "java/lang/NullPointerException") ∈ lw_all := lw_g (lw_at lw_m1 10 rfl) rfl
theorem q314 : (Jvm.Cond.selects "java/lang/NullPointerException" ({ cls := "java/lang/Throwable", name := "fillInStackTrace", desc := "()Ljava/lang/Throwable;" } : Jvm.MethodName) ({ cls := "java/lang/NullPointerException", name := "fillInStackTrace", desc := "()Ljava/lang/Throwable;" } : Jvm.MethodName)) ∈ lw_all := lw_g (lw_at lw_m1 233 rfl) rfl
theorem q315 : (Jvm.Cond.instanceMethod ({ cls := "java/lang/NullPointerException", name := "fillInStackTrace", desc := "()Ljava/lang/Throwable;" } : Jvm.MethodName)) ∈ lw_all := lw_g (lw_at lw_m1 234 rfl) rfl
theorem q316 : (Jvm.Cond.codeSync ({ cls := "java/lang/NullPointerException", name := "fillInStackTrace", desc := "()Ljava/lang/Throwable;" } : Jvm.MethodName) prog_41_method_3_code (1 : Nat) (Option.some (Jvm.ClassFile.FieldType.object "java/lang/Throwable"))) ∈ lw_all := lw_g (lw_at lw_m1 235 rfl) rfl
theorem q317 : (Jvm.Cond.methodLink "java/lang/NullPointerException" (16 : Nat) ({ cls := "java/lang/NullPointerException", name := "getExtendedNPEMessage", desc := "()Ljava/lang/String;" } : Jvm.MethodName)) ∈ lw_all := lw_g (lw_at lw_m1 236 rfl) rfl
theorem q318 : (Jvm.Cond.privateMethod ({ cls := "java/lang/NullPointerException", name := "getExtendedNPEMessage", desc := "()Ljava/lang/String;" } : Jvm.MethodName)) ∈ lw_tbl := lw_at lw_m1 237 rfl
theorem q319 : (Jvm.Cond.instanceMethod ({ cls := "java/lang/NullPointerException", name := "getExtendedNPEMessage", desc := "()Ljava/lang/String;" } : Jvm.MethodName)) ∈ lw_all := lw_g (lw_at lw_m1 238 rfl) rfl
theorem q320 : (Jvm.Cond.instantiable "java/lang/NullPointerException" (8 : Nat)) ∈ lw_all := lw_g (lw_at lw_m1 239 rfl) rfl
theorem q321 : (Jvm.Cond.native ({ cls := "java/lang/NullPointerException", name := "getExtendedNPEMessage", desc := "()Ljava/lang/String;" } : Jvm.MethodName)) ∈ lw_all := lw_g (lw_at lw_m2 0 rfl) rfl
theorem q322 : (Jvm.Cond.methodLink "java/lang/NullPointerException" (24 : Nat) ({ cls := "java/lang/RuntimeException", name := "fillInStackTrace", desc := "()Ljava/lang/Throwable;" } : Jvm.MethodName)) ∈ lw_all := lw_g (lw_at lw_m2 1 rfl) rfl
theorem q325 : (Jvm.Cond.superclass "java/lang/NullPointerException" "java/lang/RuntimeException") ∈ lw_all := lw_g (lw_at lw_m2 4 rfl) rfl
theorem q375 : (Jvm.Cond.instanceMethod ({ cls := "java/lang/NullPointerException", name := "<init>", desc := "()V" } : Jvm.MethodName)) ∈ lw_all := lw_g (lw_at lw_m2 54 rfl) rfl
theorem q376 : (Jvm.Cond.code ({ cls := "java/lang/NullPointerException", name := "<init>", desc := "()V" } : Jvm.MethodName) prog_41_method_1_code (1 : Nat) (Option.none : Option Jvm.ClassFile.FieldType)) ∈ lw_all := lw_g (lw_at lw_m2 55 rfl) rfl
theorem q377 : (Jvm.Cond.methodLink "java/lang/NullPointerException" (1 : Nat) ({ cls := "java/lang/RuntimeException", name := "<init>", desc := "()V" } : Jvm.MethodName)) ∈ lw_all := lw_g (lw_at lw_m2 56 rfl) rfl
theorem q384 : (Jvm.Cond.fieldLink "java/lang/NullPointerException" (10 : Nat) "java/lang/NullPointerException" "extendedMessageState" "I") ∈ lw_all := lw_g (lw_at lw_m2 63 rfl) rfl
theorem q385 : (Jvm.Cond.fieldLink "java/lang/NullPointerException" (20 : Nat) "java/lang/NullPointerException" "extendedMessage" "Ljava/lang/String;") ∈ lw_all := lw_g (lw_at lw_m2 64 rfl) rfl
theorem q386 : (Jvm.Cond.lays "java/lang/NullPointerException" "java/lang/NullPointerException" "extendedMessageState" "I") ∈ lw_all := lw_g (lw_at lw_m2 65 rfl) rfl
theorem q387 : (Jvm.Cond.soleField "java/lang/NullPointerException" "extendedMessageState") ∈ lw_all := lw_g (lw_at lw_m2 66 rfl) rfl
theorem q388 : (Jvm.Cond.lays "java/lang/NullPointerException" "java/lang/NullPointerException" "extendedMessage" "Ljava/lang/String;") ∈ lw_all := lw_g (lw_at lw_m2 67 rfl) rfl
theorem q389 : (Jvm.Cond.soleField "java/lang/NullPointerException" "extendedMessage") ∈ lw_all := lw_g (lw_at lw_m2 68 rfl) rfl
theorem q390 : (Jvm.Cond.lays "java/lang/NullPointerException" "java/lang/Throwable" "backtrace" "Ljava/lang/Object;") ∈ lw_all := lw_g (lw_at lw_m2 69 rfl) rfl
theorem q391 : (Jvm.Cond.lays "java/lang/NullPointerException" "java/lang/Throwable" "detailMessage" "Ljava/lang/String;") ∈ lw_all := lw_g (lw_at lw_m2 70 rfl) rfl
theorem q392 : (Jvm.Cond.lays "java/lang/NullPointerException" "java/lang/Throwable" "cause" "Ljava/lang/Throwable;") ∈ lw_all := lw_g (lw_at lw_m2 71 rfl) rfl
theorem q393 : (Jvm.Cond.lays "java/lang/NullPointerException" "java/lang/Throwable" "stackTrace" "[Ljava/lang/StackTraceElement;") ∈ lw_all := lw_g (lw_at lw_m2 72 rfl) rfl
theorem q394 : (Jvm.Cond.lays "java/lang/NullPointerException" "java/lang/Throwable" "depth" "I") ∈ lw_all := lw_g (lw_at lw_m2 73 rfl) rfl
theorem q395 : (Jvm.Cond.lays "java/lang/NullPointerException" "java/lang/Throwable" "suppressedExceptions" "Ljava/util/List;") ∈ lw_all := lw_g (lw_at lw_m2 74 rfl) rfl
theorem q396 : (Jvm.Cond.castable "java/lang/NullPointerException" "java/lang/NullPointerException") ∈ lw_tbl := lw_at lw_m2 75 rfl
theorem q397 : (Jvm.Cond.selects "java/lang/NullPointerException" ({ cls := "java/lang/Throwable", name := "fillInStackTrace", desc := "(I)Ljava/lang/Throwable;" } : Jvm.MethodName) ({ cls := "java/lang/Throwable", name := "fillInStackTrace", desc := "(I)Ljava/lang/Throwable;" } : Jvm.MethodName)) ∈ lw_all := lw_g (lw_at lw_m2 76 rfl) rfl
theorem in_J5 : ∀ w ∈ wsJ50, w ∈ lw_all := lw_in wsJ50 [390, 391, 392, 393, 394, 395, 386, 388] (by decide +kernel) (by decide +kernel)

/-! java/lang/IndexOutOfBoundsException -/
set_option maxRecDepth 100000
def RJ6 : String := "java/lang/IndexOutOfBoundsException"
abbrev cJ6_init : ByteArray := prog_37_method_2_code
def yJ6_init : MethodName := ⟨RJ6, "<init>", "(Ljava/lang/String;)V"⟩
def dkwJ6_init_0 : List UInt8 := [42, 43, 183, 0, 7, 177]
abbrev dktJ6_init_0 : List UInt8 := dkwJ6_init_0 ++ []
theorem dksJ6_init_0 : cJ6_init.data.toList.drop 0 = dktJ6_init_0 := by decide +kernel
theorem dJ6_init_0 : decode cJ6_init 0 = .ok (.aload_n 0, 1) := dk_42 (dk_at dksJ6_init_0 0 rfl rfl)
theorem dJ6_init_1 : decode cJ6_init 1 = .ok (.aload_n 1, 1) := dk_43 (dk_at dksJ6_init_0 1 rfl rfl)
theorem dJ6_init_2 : decode cJ6_init 2 = .ok (.invokespecial 7, 3) := dk_183 0 7 (dk_at dksJ6_init_0 2 rfl rfl)
theorem dJ6_init_5 : decode cJ6_init 5 = .ok (.return_, 1) := dk_177 (dk_at dksJ6_init_0 5 rfl rfl)
theorem q92 : (Jvm.Cond.initialized "java/lang/IndexOutOfBoundsException") ∈ lw_all := lw_g (lw_at lw_m1 11 rfl) rfl
theorem q404 : (Jvm.Cond.instanceMethod ({ cls := "java/lang/IndexOutOfBoundsException", name := "<init>", desc := "(Ljava/lang/String;)V" } : Jvm.MethodName)) ∈ lw_all := lw_g (lw_at lw_m2 83 rfl) rfl
theorem q405 : (Jvm.Cond.code ({ cls := "java/lang/IndexOutOfBoundsException", name := "<init>", desc := "(Ljava/lang/String;)V" } : Jvm.MethodName) prog_37_method_2_code (2 : Nat) (Option.none : Option Jvm.ClassFile.FieldType)) ∈ lw_all := lw_g (lw_at lw_m2 84 rfl) rfl
theorem q406 : (Jvm.Cond.methodLink "java/lang/IndexOutOfBoundsException" (7 : Nat) ({ cls := "java/lang/RuntimeException", name := "<init>", desc := "(Ljava/lang/String;)V" } : Jvm.MethodName)) ∈ lw_all := lw_g (lw_at lw_m2 85 rfl) rfl
theorem q415 : (Jvm.Cond.declares ({ cls := "java/lang/IndexOutOfBoundsException", name := "<init>", desc := "()V" } : Jvm.MethodName)) ∈ lw_tbl := lw_at lw_m2 94 rfl
theorem q416 : (Jvm.Cond.declares ({ cls := "java/lang/IndexOutOfBoundsException", name := "<init>", desc := "(Ljava/lang/String;)V" } : Jvm.MethodName)) ∈ lw_tbl := lw_at lw_m2 95 rfl

/-! java/lang/ArrayIndexOutOfBoundsException -/
set_option maxRecDepth 100000
def RJ7 : String := "java/lang/ArrayIndexOutOfBoundsException"
def TJ7 : u_T := fun k => match k with
  | 0 => ("java/lang/Throwable", "backtrace", "Ljava/lang/Object;", false)
  | 1 => ("java/lang/Throwable", "detailMessage", "Ljava/lang/String;", false)
  | 2 => ("java/lang/Throwable", "cause", "Ljava/lang/Throwable;", false)
  | 3 => ("java/lang/Throwable", "stackTrace", "[Ljava/lang/StackTraceElement;", false)
  | 4 => ("java/lang/Throwable", "depth", "I", false)
  | _ => ("java/lang/Throwable", "suppressedExceptions", "Ljava/util/List;", false)
def tyJ7 : Nat → FieldType := fun k => match k with
  | 0 => .object "java/lang/Object"
  | 1 => .object "java/lang/String"
  | 2 => .object "java/lang/Throwable"
  | 3 => .array (.object "java/lang/StackTraceElement")
  | 4 => .int
  | _ => .object "java/util/List"
abbrev wsJ70 : List Cond := u_ws RJ7 TJ7 6
theorem nmJ7 : ∀ a, a < 6 → ∀ b, b < 6 → a ≠ b → (TJ7 a).2.1 ≠ (TJ7 b).2.1 := by decide +kernel
theorem tyJ7_ok : ∀ k, k < 6 → parseFieldDescriptor (TJ7 k).2.2.1 = some (tyJ7 k) := by decide +kernel
abbrev cJ7_init : ByteArray := prog_33_method_2_code
def yJ7_init : MethodName := ⟨RJ7, "<init>", "(Ljava/lang/String;)V"⟩
def dkwJ7_init_0 : List UInt8 := [42, 43, 183, 0, 7, 177]
abbrev dktJ7_init_0 : List UInt8 := dkwJ7_init_0 ++ []
theorem dksJ7_init_0 : cJ7_init.data.toList.drop 0 = dktJ7_init_0 := by decide +kernel
theorem dJ7_init_0 : decode cJ7_init 0 = .ok (.aload_n 0, 1) := dk_42 (dk_at dksJ7_init_0 0 rfl rfl)
theorem dJ7_init_1 : decode cJ7_init 1 = .ok (.aload_n 1, 1) := dk_43 (dk_at dksJ7_init_0 1 rfl rfl)
theorem dJ7_init_2 : decode cJ7_init 2 = .ok (.invokespecial 7, 3) := dk_183 0 7 (dk_at dksJ7_init_0 2 rfl rfl)
theorem dJ7_init_5 : decode cJ7_init 5 = .ok (.return_, 1) := dk_177 (dk_at dksJ7_init_0 5 rfl rfl)
theorem q93 : (Jvm.Cond.initialized "java/lang/ArrayIndexOutOfBoundsException") ∈ lw_all := lw_g (lw_at lw_m1 12 rfl) rfl
theorem q311 : (Jvm.Cond.selects "java/lang/ArrayIndexOutOfBoundsException" ({ cls := "java/lang/Throwable", name := "fillInStackTrace", desc := "()Ljava/lang/Throwable;" } : Jvm.MethodName) ({ cls := "java/lang/Throwable", name := "fillInStackTrace", desc := "()Ljava/lang/Throwable;" } : Jvm.MethodName)) ∈ lw_all := lw_g (lw_at lw_m1 230 rfl) rfl
theorem q400 : (Jvm.Cond.instantiable "java/lang/ArrayIndexOutOfBoundsException" (6 : Nat)) ∈ lw_all := lw_g (lw_at lw_m2 79 rfl) rfl
theorem q401 : (Jvm.Cond.instanceMethod ({ cls := "java/lang/ArrayIndexOutOfBoundsException", name := "<init>", desc := "(Ljava/lang/String;)V" } : Jvm.MethodName)) ∈ lw_all := lw_g (lw_at lw_m2 80 rfl) rfl
theorem q402 : (Jvm.Cond.code ({ cls := "java/lang/ArrayIndexOutOfBoundsException", name := "<init>", desc := "(Ljava/lang/String;)V" } : Jvm.MethodName) prog_33_method_2_code (2 : Nat) (Option.none : Option Jvm.ClassFile.FieldType)) ∈ lw_all := lw_g (lw_at lw_m2 81 rfl) rfl
theorem q403 : (Jvm.Cond.methodLink "java/lang/ArrayIndexOutOfBoundsException" (7 : Nat) ({ cls := "java/lang/IndexOutOfBoundsException", name := "<init>", desc := "(Ljava/lang/String;)V" } : Jvm.MethodName)) ∈ lw_all := lw_g (lw_at lw_m2 82 rfl) rfl
theorem q407 : (Jvm.Cond.lays "java/lang/ArrayIndexOutOfBoundsException" "java/lang/Throwable" "backtrace" "Ljava/lang/Object;") ∈ lw_all := lw_g (lw_at lw_m2 86 rfl) rfl
theorem q408 : (Jvm.Cond.lays "java/lang/ArrayIndexOutOfBoundsException" "java/lang/Throwable" "detailMessage" "Ljava/lang/String;") ∈ lw_all := lw_g (lw_at lw_m2 87 rfl) rfl
theorem q409 : (Jvm.Cond.lays "java/lang/ArrayIndexOutOfBoundsException" "java/lang/Throwable" "cause" "Ljava/lang/Throwable;") ∈ lw_all := lw_g (lw_at lw_m2 88 rfl) rfl
theorem q410 : (Jvm.Cond.lays "java/lang/ArrayIndexOutOfBoundsException" "java/lang/Throwable" "stackTrace" "[Ljava/lang/StackTraceElement;") ∈ lw_all := lw_g (lw_at lw_m2 89 rfl) rfl
theorem q411 : (Jvm.Cond.lays "java/lang/ArrayIndexOutOfBoundsException" "java/lang/Throwable" "depth" "I") ∈ lw_all := lw_g (lw_at lw_m2 90 rfl) rfl
theorem q412 : (Jvm.Cond.lays "java/lang/ArrayIndexOutOfBoundsException" "java/lang/Throwable" "suppressedExceptions" "Ljava/util/List;") ∈ lw_all := lw_g (lw_at lw_m2 91 rfl) rfl
theorem q413 : (Jvm.Cond.superclass "java/lang/ArrayIndexOutOfBoundsException" "java/lang/IndexOutOfBoundsException") ∈ lw_all := lw_g (lw_at lw_m2 92 rfl) rfl
theorem q414 : (Jvm.Cond.castable "java/lang/ArrayIndexOutOfBoundsException" "java/lang/ArrayIndexOutOfBoundsException") ∈ lw_tbl := lw_at lw_m2 93 rfl
theorem q417 : (Jvm.Cond.selects "java/lang/ArrayIndexOutOfBoundsException" ({ cls := "java/lang/Throwable", name := "fillInStackTrace", desc := "(I)Ljava/lang/Throwable;" } : Jvm.MethodName) ({ cls := "java/lang/Throwable", name := "fillInStackTrace", desc := "(I)Ljava/lang/Throwable;" } : Jvm.MethodName)) ∈ lw_all := lw_g (lw_at lw_m2 96 rfl) rfl
theorem q2010 : (Jvm.Cond.castable "java/lang/ArrayIndexOutOfBoundsException" "java/lang/IndexOutOfBoundsException") ∈ lw_tbl := lw_at lw_m9 9 rfl
theorem in_J7 : ∀ w ∈ wsJ70, w ∈ lw_all := lw_in wsJ70 [407, 408, 409, 410, 411, 412] (by decide +kernel) (by decide +kernel)

/-! java/lang/StringLatin1 -/
set_option maxRecDepth 100000
def RJ8 : String := "java/lang/StringLatin1"
abbrev cJ8_indexOf : ByteArray := prog_44_method_22_code
def yJ8_indexOf : MethodName := ⟨RJ8, "indexOf", "([BIII)I"⟩
def dkwJ8_indexOf_1 : List UInt8 := [161, 0, 5, 2, 172, 42, 27, 28, 29, 184, 0, 95, 172]
abbrev dktJ8_indexOf_1 : List UInt8 := dkwJ8_indexOf_1 ++ []
def dkwJ8_indexOf_0 : List UInt8 := [27, 184, 0, 88, 154, 0, 5, 2, 172, 28, 3, 184, 0, 92, 61, 29, 42, 190, 184, 0, 38, 62, 28, 29]
abbrev dktJ8_indexOf_0 : List UInt8 := dkwJ8_indexOf_0 ++ dktJ8_indexOf_1
theorem dksJ8_indexOf_0 : cJ8_indexOf.data.toList.drop 0 = dktJ8_indexOf_0 := by decide +kernel
theorem dksJ8_indexOf_1 : cJ8_indexOf.data.toList.drop 24 = dktJ8_indexOf_1 := dk_seg dksJ8_indexOf_0 24 rfl rfl
theorem dJ8_indexOf_0 : decode cJ8_indexOf 0 = .ok (.iload_n 1, 1) := dk_27 (dk_at dksJ8_indexOf_0 0 rfl rfl)
theorem dJ8_indexOf_1 : decode cJ8_indexOf 1 = .ok (.invokestatic 88, 3) := dk_184 0 88 (dk_at dksJ8_indexOf_0 1 rfl rfl)
theorem dJ8_indexOf_4 : decode cJ8_indexOf 4 = .ok (.ifCond .ne 5, 3) := dk_154 0 5 (dk_at dksJ8_indexOf_0 4 rfl rfl)
theorem dJ8_indexOf_7 : decode cJ8_indexOf 7 = .ok (.iconst (-1), 1) := dk_2 (dk_at dksJ8_indexOf_0 7 rfl rfl)
theorem dJ8_indexOf_8 : decode cJ8_indexOf 8 = .ok (.ireturn, 1) := dk_172 (dk_at dksJ8_indexOf_0 8 rfl rfl)
theorem dJ8_indexOf_9 : decode cJ8_indexOf 9 = .ok (.iload_n 2, 1) := dk_28 (dk_at dksJ8_indexOf_0 9 rfl rfl)
theorem dJ8_indexOf_10 : decode cJ8_indexOf 10 = .ok (.iconst 0, 1) := dk_3 (dk_at dksJ8_indexOf_0 10 rfl rfl)
theorem dJ8_indexOf_11 : decode cJ8_indexOf 11 = .ok (.invokestatic 92, 3) := dk_184 0 92 (dk_at dksJ8_indexOf_0 11 rfl rfl)
theorem dJ8_indexOf_14 : decode cJ8_indexOf 14 = .ok (.istore_n 2, 1) := dk_61 (dk_at dksJ8_indexOf_0 14 rfl rfl)
theorem dJ8_indexOf_15 : decode cJ8_indexOf 15 = .ok (.iload_n 3, 1) := dk_29 (dk_at dksJ8_indexOf_0 15 rfl rfl)
theorem dJ8_indexOf_16 : decode cJ8_indexOf 16 = .ok (.aload_n 0, 1) := dk_42 (dk_at dksJ8_indexOf_0 16 rfl rfl)
theorem dJ8_indexOf_17 : decode cJ8_indexOf 17 = .ok (.arraylength, 1) := dk_190 (dk_at dksJ8_indexOf_0 17 rfl rfl)
theorem dJ8_indexOf_18 : decode cJ8_indexOf 18 = .ok (.invokestatic 38, 3) := dk_184 0 38 (dk_at dksJ8_indexOf_0 18 rfl rfl)
theorem dJ8_indexOf_21 : decode cJ8_indexOf 21 = .ok (.istore_n 3, 1) := dk_62 (dk_at dksJ8_indexOf_0 21 rfl rfl)
theorem dJ8_indexOf_22 : decode cJ8_indexOf 22 = .ok (.iload_n 2, 1) := dk_28 (dk_at dksJ8_indexOf_0 22 rfl rfl)
theorem dJ8_indexOf_23 : decode cJ8_indexOf 23 = .ok (.iload_n 3, 1) := dk_29 (dk_at dksJ8_indexOf_0 23 rfl rfl)
theorem dJ8_indexOf_24 : decode cJ8_indexOf 24 = .ok (.if_icmp .lt 5, 3) := dk_161 0 5 (dk_at dksJ8_indexOf_1 0 rfl rfl)
theorem dJ8_indexOf_27 : decode cJ8_indexOf 27 = .ok (.iconst (-1), 1) := dk_2 (dk_at dksJ8_indexOf_1 3 rfl rfl)
theorem dJ8_indexOf_28 : decode cJ8_indexOf 28 = .ok (.ireturn, 1) := dk_172 (dk_at dksJ8_indexOf_1 4 rfl rfl)
theorem dJ8_indexOf_29 : decode cJ8_indexOf 29 = .ok (.aload_n 0, 1) := dk_42 (dk_at dksJ8_indexOf_1 5 rfl rfl)
theorem dJ8_indexOf_30 : decode cJ8_indexOf 30 = .ok (.iload_n 1, 1) := dk_27 (dk_at dksJ8_indexOf_1 6 rfl rfl)
theorem dJ8_indexOf_31 : decode cJ8_indexOf 31 = .ok (.iload_n 2, 1) := dk_28 (dk_at dksJ8_indexOf_1 7 rfl rfl)
theorem dJ8_indexOf_32 : decode cJ8_indexOf 32 = .ok (.iload_n 3, 1) := dk_29 (dk_at dksJ8_indexOf_1 8 rfl rfl)
theorem dJ8_indexOf_33 : decode cJ8_indexOf 33 = .ok (.invokestatic 95, 3) := dk_184 0 95 (dk_at dksJ8_indexOf_1 9 rfl rfl)
theorem dJ8_indexOf_36 : decode cJ8_indexOf 36 = .ok (.ireturn, 1) := dk_172 (dk_at dksJ8_indexOf_1 12 rfl rfl)
abbrev cJ8_canEncode : ByteArray := prog_44_method_4_code
def yJ8_canEncode : MethodName := ⟨RJ8, "canEncode", "(I)Z"⟩
def dkwJ8_canEncode_0 : List UInt8 := [26, 155, 0, 14, 26, 17, 0, 255, 163, 0, 7, 4, 167, 0, 4, 3, 172]
abbrev dktJ8_canEncode_0 : List UInt8 := dkwJ8_canEncode_0 ++ []
theorem dksJ8_canEncode_0 : cJ8_canEncode.data.toList.drop 0 = dktJ8_canEncode_0 := by decide +kernel
theorem dJ8_canEncode_0 : decode cJ8_canEncode 0 = .ok (.iload_n 0, 1) := dk_26 (dk_at dksJ8_canEncode_0 0 rfl rfl)
theorem dJ8_canEncode_1 : decode cJ8_canEncode 1 = .ok (.ifCond .lt 14, 3) := dk_155 0 14 (dk_at dksJ8_canEncode_0 1 rfl rfl)
theorem dJ8_canEncode_4 : decode cJ8_canEncode 4 = .ok (.iload_n 0, 1) := dk_26 (dk_at dksJ8_canEncode_0 4 rfl rfl)
theorem dJ8_canEncode_5 : decode cJ8_canEncode 5 = .ok (.sipush 255, 3) := dk_17 0 255 (dk_at dksJ8_canEncode_0 5 rfl rfl)
theorem dJ8_canEncode_8 : decode cJ8_canEncode 8 = .ok (.if_icmp .gt 7, 3) := dk_163 0 7 (dk_at dksJ8_canEncode_0 8 rfl rfl)
theorem dJ8_canEncode_11 : decode cJ8_canEncode 11 = .ok (.iconst 1, 1) := dk_4 (dk_at dksJ8_canEncode_0 11 rfl rfl)
theorem dJ8_canEncode_12 : decode cJ8_canEncode 12 = .ok (.goto 4, 3) := dk_167 0 4 (dk_at dksJ8_canEncode_0 12 rfl rfl)
theorem dJ8_canEncode_15 : decode cJ8_canEncode 15 = .ok (.iconst 0, 1) := dk_3 (dk_at dksJ8_canEncode_0 15 rfl rfl)
theorem dJ8_canEncode_16 : decode cJ8_canEncode 16 = .ok (.ireturn, 1) := dk_172 (dk_at dksJ8_canEncode_0 16 rfl rfl)
abbrev cJ8_indexOfChar : ByteArray := prog_44_method_23_code
def yJ8_indexOfChar : MethodName := ⟨RJ8, "indexOfChar", "([BIII)I"⟩
def dkwJ8_indexOfChar_1 : List UInt8 := [172, 132, 5, 1, 167, 255, 235, 2, 172]
abbrev dktJ8_indexOfChar_1 : List UInt8 := dkwJ8_indexOfChar_1 ++ []
def dkwJ8_indexOfChar_0 : List UInt8 := [27, 145, 54, 4, 28, 54, 5, 21, 5, 29, 162, 0, 21, 42, 21, 5, 51, 21, 4, 160, 0, 6, 21, 5]
abbrev dktJ8_indexOfChar_0 : List UInt8 := dkwJ8_indexOfChar_0 ++ dktJ8_indexOfChar_1
theorem dksJ8_indexOfChar_0 : cJ8_indexOfChar.data.toList.drop 0 = dktJ8_indexOfChar_0 := by decide +kernel
theorem dksJ8_indexOfChar_1 : cJ8_indexOfChar.data.toList.drop 24 = dktJ8_indexOfChar_1 := dk_seg dksJ8_indexOfChar_0 24 rfl rfl
theorem dJ8_indexOfChar_0 : decode cJ8_indexOfChar 0 = .ok (.iload_n 1, 1) := dk_27 (dk_at dksJ8_indexOfChar_0 0 rfl rfl)
theorem dJ8_indexOfChar_1 : decode cJ8_indexOfChar 1 = .ok (.i2b, 1) := dk_145 (dk_at dksJ8_indexOfChar_0 1 rfl rfl)
theorem dJ8_indexOfChar_2 : decode cJ8_indexOfChar 2 = .ok (.istore 4, 2) := dk_54 4 (dk_at dksJ8_indexOfChar_0 2 rfl rfl)
theorem dJ8_indexOfChar_4 : decode cJ8_indexOfChar 4 = .ok (.iload_n 2, 1) := dk_28 (dk_at dksJ8_indexOfChar_0 4 rfl rfl)
theorem dJ8_indexOfChar_5 : decode cJ8_indexOfChar 5 = .ok (.istore 5, 2) := dk_54 5 (dk_at dksJ8_indexOfChar_0 5 rfl rfl)
theorem dJ8_indexOfChar_7 : decode cJ8_indexOfChar 7 = .ok (.iload 5, 2) := dk_21 5 (dk_at dksJ8_indexOfChar_0 7 rfl rfl)
theorem dJ8_indexOfChar_9 : decode cJ8_indexOfChar 9 = .ok (.iload_n 3, 1) := dk_29 (dk_at dksJ8_indexOfChar_0 9 rfl rfl)
theorem dJ8_indexOfChar_10 : decode cJ8_indexOfChar 10 = .ok (.if_icmp .ge 21, 3) := dk_162 0 21 (dk_at dksJ8_indexOfChar_0 10 rfl rfl)
theorem dJ8_indexOfChar_13 : decode cJ8_indexOfChar 13 = .ok (.aload_n 0, 1) := dk_42 (dk_at dksJ8_indexOfChar_0 13 rfl rfl)
theorem dJ8_indexOfChar_14 : decode cJ8_indexOfChar 14 = .ok (.iload 5, 2) := dk_21 5 (dk_at dksJ8_indexOfChar_0 14 rfl rfl)
theorem dJ8_indexOfChar_16 : decode cJ8_indexOfChar 16 = .ok (.baload, 1) := dk_51 (dk_at dksJ8_indexOfChar_0 16 rfl rfl)
theorem dJ8_indexOfChar_17 : decode cJ8_indexOfChar 17 = .ok (.iload 4, 2) := dk_21 4 (dk_at dksJ8_indexOfChar_0 17 rfl rfl)
theorem dJ8_indexOfChar_19 : decode cJ8_indexOfChar 19 = .ok (.if_icmp .ne 6, 3) := dk_160 0 6 (dk_at dksJ8_indexOfChar_0 19 rfl rfl)
theorem dJ8_indexOfChar_22 : decode cJ8_indexOfChar 22 = .ok (.iload 5, 2) := dk_21 5 (dk_at dksJ8_indexOfChar_0 22 rfl rfl)
theorem dJ8_indexOfChar_24 : decode cJ8_indexOfChar 24 = .ok (.ireturn, 1) := dk_172 (dk_at dksJ8_indexOfChar_1 0 rfl rfl)
theorem dJ8_indexOfChar_25 : decode cJ8_indexOfChar 25 = .ok (.iinc 5 1, 3) := dk_132 5 1 (dk_at dksJ8_indexOfChar_1 1 rfl rfl)
theorem dJ8_indexOfChar_28 : decode cJ8_indexOfChar 28 = .ok (.goto (-21), 3) := dk_167 255 235 (dk_at dksJ8_indexOfChar_1 4 rfl rfl)
theorem dJ8_indexOfChar_31 : decode cJ8_indexOfChar 31 = .ok (.iconst (-1), 1) := dk_2 (dk_at dksJ8_indexOfChar_1 7 rfl rfl)
theorem dJ8_indexOfChar_32 : decode cJ8_indexOfChar 32 = .ok (.ireturn, 1) := dk_172 (dk_at dksJ8_indexOfChar_1 8 rfl rfl)
theorem q98 : (Jvm.Cond.initialized "java/lang/StringLatin1") ∈ lw_all := lw_g (lw_at lw_m1 17 rfl) rfl
theorem q636 : (Jvm.Cond.static ({ cls := "java/lang/StringLatin1", name := "indexOf", desc := "([BIII)I" } : Jvm.MethodName)) ∈ lw_all := lw_g (lw_at lw_m3 75 rfl) rfl
theorem q637 : (Jvm.Cond.code ({ cls := "java/lang/StringLatin1", name := "indexOf", desc := "([BIII)I" } : Jvm.MethodName) prog_44_method_22_code (4 : Nat) (Option.some Jvm.ClassFile.FieldType.int)) ∈ lw_all := lw_g (lw_at lw_m3 76 rfl) rfl
theorem q638 : (Jvm.Cond.methodLink "java/lang/StringLatin1" (88 : Nat) ({ cls := "java/lang/StringLatin1", name := "canEncode", desc := "(I)Z" } : Jvm.MethodName)) ∈ lw_all := lw_g (lw_at lw_m3 77 rfl) rfl
theorem q639 : (Jvm.Cond.static ({ cls := "java/lang/StringLatin1", name := "canEncode", desc := "(I)Z" } : Jvm.MethodName)) ∈ lw_all := lw_g (lw_at lw_m3 78 rfl) rfl
theorem q640 : (Jvm.Cond.code ({ cls := "java/lang/StringLatin1", name := "canEncode", desc := "(I)Z" } : Jvm.MethodName) prog_44_method_4_code (1 : Nat) (Option.some Jvm.ClassFile.FieldType.boolean)) ∈ lw_all := lw_g (lw_at lw_m3 79 rfl) rfl
theorem q641 : (Jvm.Cond.methodLink "java/lang/StringLatin1" (92 : Nat) ({ cls := "java/lang/Math", name := "max", desc := "(II)I" } : Jvm.MethodName)) ∈ lw_all := lw_g (lw_at lw_m3 80 rfl) rfl
theorem q644 : (Jvm.Cond.methodLink "java/lang/StringLatin1" (38 : Nat) ({ cls := "java/lang/Math", name := "min", desc := "(II)I" } : Jvm.MethodName)) ∈ lw_all := lw_g (lw_at lw_m3 83 rfl) rfl
theorem q647 : (Jvm.Cond.methodLink "java/lang/StringLatin1" (95 : Nat) ({ cls := "java/lang/StringLatin1", name := "indexOfChar", desc := "([BIII)I" } : Jvm.MethodName)) ∈ lw_all := lw_g (lw_at lw_m3 86 rfl) rfl
theorem q648 : (Jvm.Cond.static ({ cls := "java/lang/StringLatin1", name := "indexOfChar", desc := "([BIII)I" } : Jvm.MethodName)) ∈ lw_all := lw_g (lw_at lw_m3 87 rfl) rfl
theorem q649 : (Jvm.Cond.code ({ cls := "java/lang/StringLatin1", name := "indexOfChar", desc := "([BIII)I" } : Jvm.MethodName) prog_44_method_23_code (6 : Nat) (Option.some Jvm.ClassFile.FieldType.int)) ∈ lw_all := lw_g (lw_at lw_m3 88 rfl) rfl

/-! java/lang/Math -/
set_option maxRecDepth 100000
def RJ9 : String := "java/lang/Math"
abbrev cJ9_max : ByteArray := prog_39_method_65_code
def yJ9_max : MethodName := ⟨RJ9, "max", "(II)I"⟩
def dkwJ9_max_0 : List UInt8 := [26, 27, 161, 0, 7, 26, 167, 0, 4, 27, 172]
abbrev dktJ9_max_0 : List UInt8 := dkwJ9_max_0 ++ []
theorem dksJ9_max_0 : cJ9_max.data.toList.drop 0 = dktJ9_max_0 := by decide +kernel
theorem dJ9_max_0 : decode cJ9_max 0 = .ok (.iload_n 0, 1) := dk_26 (dk_at dksJ9_max_0 0 rfl rfl)
theorem dJ9_max_1 : decode cJ9_max 1 = .ok (.iload_n 1, 1) := dk_27 (dk_at dksJ9_max_0 1 rfl rfl)
theorem dJ9_max_2 : decode cJ9_max 2 = .ok (.if_icmp .lt 7, 3) := dk_161 0 7 (dk_at dksJ9_max_0 2 rfl rfl)
theorem dJ9_max_5 : decode cJ9_max 5 = .ok (.iload_n 0, 1) := dk_26 (dk_at dksJ9_max_0 5 rfl rfl)
theorem dJ9_max_6 : decode cJ9_max 6 = .ok (.goto 4, 3) := dk_167 0 4 (dk_at dksJ9_max_0 6 rfl rfl)
theorem dJ9_max_9 : decode cJ9_max 9 = .ok (.iload_n 1, 1) := dk_27 (dk_at dksJ9_max_0 9 rfl rfl)
theorem dJ9_max_10 : decode cJ9_max 10 = .ok (.ireturn, 1) := dk_172 (dk_at dksJ9_max_0 10 rfl rfl)
abbrev cJ9_min : ByteArray := prog_39_method_69_code
def yJ9_min : MethodName := ⟨RJ9, "min", "(II)I"⟩
def dkwJ9_min_0 : List UInt8 := [26, 27, 163, 0, 7, 26, 167, 0, 4, 27, 172]
abbrev dktJ9_min_0 : List UInt8 := dkwJ9_min_0 ++ []
theorem dksJ9_min_0 : cJ9_min.data.toList.drop 0 = dktJ9_min_0 := by decide +kernel
theorem dJ9_min_0 : decode cJ9_min 0 = .ok (.iload_n 0, 1) := dk_26 (dk_at dksJ9_min_0 0 rfl rfl)
theorem dJ9_min_1 : decode cJ9_min 1 = .ok (.iload_n 1, 1) := dk_27 (dk_at dksJ9_min_0 1 rfl rfl)
theorem dJ9_min_2 : decode cJ9_min 2 = .ok (.if_icmp .gt 7, 3) := dk_163 0 7 (dk_at dksJ9_min_0 2 rfl rfl)
theorem dJ9_min_5 : decode cJ9_min 5 = .ok (.iload_n 0, 1) := dk_26 (dk_at dksJ9_min_0 5 rfl rfl)
theorem dJ9_min_6 : decode cJ9_min 6 = .ok (.goto 4, 3) := dk_167 0 4 (dk_at dksJ9_min_0 6 rfl rfl)
theorem dJ9_min_9 : decode cJ9_min 9 = .ok (.iload_n 1, 1) := dk_27 (dk_at dksJ9_min_0 9 rfl rfl)
theorem dJ9_min_10 : decode cJ9_min 10 = .ok (.ireturn, 1) := dk_172 (dk_at dksJ9_min_0 10 rfl rfl)
abbrev cJ9_abs : ByteArray := prog_39_method_59_code
def yJ9_abs : MethodName := ⟨RJ9, "abs", "(I)I"⟩
def dkwJ9_abs_0 : List UInt8 := [26, 156, 0, 8, 26, 116, 167, 0, 4, 26, 172]
abbrev dktJ9_abs_0 : List UInt8 := dkwJ9_abs_0 ++ []
theorem dksJ9_abs_0 : cJ9_abs.data.toList.drop 0 = dktJ9_abs_0 := by decide +kernel
theorem dJ9_abs_0 : decode cJ9_abs 0 = .ok (.iload_n 0, 1) := dk_26 (dk_at dksJ9_abs_0 0 rfl rfl)
theorem dJ9_abs_1 : decode cJ9_abs 1 = .ok (.ifCond .ge 8, 3) := dk_156 0 8 (dk_at dksJ9_abs_0 1 rfl rfl)
theorem dJ9_abs_4 : decode cJ9_abs 4 = .ok (.iload_n 0, 1) := dk_26 (dk_at dksJ9_abs_0 4 rfl rfl)
theorem dJ9_abs_5 : decode cJ9_abs 5 = .ok (.ineg, 1) := dk_116 (dk_at dksJ9_abs_0 5 rfl rfl)
theorem dJ9_abs_6 : decode cJ9_abs 6 = .ok (.goto 4, 3) := dk_167 0 4 (dk_at dksJ9_abs_0 6 rfl rfl)
theorem dJ9_abs_9 : decode cJ9_abs 9 = .ok (.iload_n 0, 1) := dk_26 (dk_at dksJ9_abs_0 9 rfl rfl)
theorem dJ9_abs_10 : decode cJ9_abs 10 = .ok (.ireturn, 1) := dk_172 (dk_at dksJ9_abs_0 10 rfl rfl)
theorem q99 : (Jvm.Cond.initialized "java/lang/Math") ∈ lw_all := lw_g (lw_at lw_m1 18 rfl) rfl
theorem q642 : (Jvm.Cond.static ({ cls := "java/lang/Math", name := "max", desc := "(II)I" } : Jvm.MethodName)) ∈ lw_all := lw_g (lw_at lw_m3 81 rfl) rfl
theorem q643 : (Jvm.Cond.code ({ cls := "java/lang/Math", name := "max", desc := "(II)I" } : Jvm.MethodName) prog_39_method_65_code (2 : Nat) (Option.some Jvm.ClassFile.FieldType.int)) ∈ lw_all := lw_g (lw_at lw_m3 82 rfl) rfl
theorem q645 : (Jvm.Cond.static ({ cls := "java/lang/Math", name := "min", desc := "(II)I" } : Jvm.MethodName)) ∈ lw_all := lw_g (lw_at lw_m3 84 rfl) rfl
theorem q646 : (Jvm.Cond.code ({ cls := "java/lang/Math", name := "min", desc := "(II)I" } : Jvm.MethodName) prog_39_method_69_code (2 : Nat) (Option.some Jvm.ClassFile.FieldType.int)) ∈ lw_all := lw_g (lw_at lw_m3 85 rfl) rfl
theorem q858 : (Jvm.Cond.static ({ cls := "java/lang/Math", name := "abs", desc := "(I)I" } : Jvm.MethodName)) ∈ lw_all := lw_g (lw_at lw_m4 57 rfl) rfl
theorem q859 : (Jvm.Cond.code ({ cls := "java/lang/Math", name := "abs", desc := "(I)I" } : Jvm.MethodName) prog_39_method_59_code (1 : Nat) (Option.some Jvm.ClassFile.FieldType.int)) ∈ lw_all := lw_g (lw_at lw_m4 58 rfl) rfl

/-! java/lang/StringUTF16 -/
set_option maxRecDepth 100000
def RJ10 : String := "java/lang/StringUTF16"
abbrev cJ10_indexOf : ByteArray := prog_45_method_40_code
def yJ10_indexOf : MethodName := ⟨RJ10, "indexOf", "([BIII)I"⟩
def dkwJ10_indexOf_1 : List UInt8 := [18, 227, 162, 0, 11, 42, 27, 28, 29, 184, 0, 228, 172, 42, 27, 28, 29, 184, 0, 232, 172]
abbrev dktJ10_indexOf_1 : List UInt8 := dkwJ10_indexOf_1 ++ []
def dkwJ10_indexOf_0 : List UInt8 := [28, 3, 184, 0, 224, 61, 29, 42, 190, 4, 122, 184, 0, 183, 62, 28, 29, 161, 0, 5, 2, 172, 27]
abbrev dktJ10_indexOf_0 : List UInt8 := dkwJ10_indexOf_0 ++ dktJ10_indexOf_1
theorem dksJ10_indexOf_0 : cJ10_indexOf.data.toList.drop 0 = dktJ10_indexOf_0 := by decide +kernel
theorem dksJ10_indexOf_1 : cJ10_indexOf.data.toList.drop 23 = dktJ10_indexOf_1 := dk_seg dksJ10_indexOf_0 23 rfl rfl
theorem dJ10_indexOf_0 : decode cJ10_indexOf 0 = .ok (.iload_n 2, 1) := dk_28 (dk_at dksJ10_indexOf_0 0 rfl rfl)
theorem dJ10_indexOf_1 : decode cJ10_indexOf 1 = .ok (.iconst 0, 1) := dk_3 (dk_at dksJ10_indexOf_0 1 rfl rfl)
theorem dJ10_indexOf_2 : decode cJ10_indexOf 2 = .ok (.invokestatic 224, 3) := dk_184 0 224 (dk_at dksJ10_indexOf_0 2 rfl rfl)
theorem dJ10_indexOf_5 : decode cJ10_indexOf 5 = .ok (.istore_n 2, 1) := dk_61 (dk_at dksJ10_indexOf_0 5 rfl rfl)
theorem dJ10_indexOf_6 : decode cJ10_indexOf 6 = .ok (.iload_n 3, 1) := dk_29 (dk_at dksJ10_indexOf_0 6 rfl rfl)
theorem dJ10_indexOf_7 : decode cJ10_indexOf 7 = .ok (.aload_n 0, 1) := dk_42 (dk_at dksJ10_indexOf_0 7 rfl rfl)
theorem dJ10_indexOf_8 : decode cJ10_indexOf 8 = .ok (.arraylength, 1) := dk_190 (dk_at dksJ10_indexOf_0 8 rfl rfl)
theorem dJ10_indexOf_9 : decode cJ10_indexOf 9 = .ok (.iconst 1, 1) := dk_4 (dk_at dksJ10_indexOf_0 9 rfl rfl)
theorem dJ10_indexOf_10 : decode cJ10_indexOf 10 = .ok (.ishr, 1) := dk_122 (dk_at dksJ10_indexOf_0 10 rfl rfl)
theorem dJ10_indexOf_11 : decode cJ10_indexOf 11 = .ok (.invokestatic 183, 3) := dk_184 0 183 (dk_at dksJ10_indexOf_0 11 rfl rfl)
theorem dJ10_indexOf_14 : decode cJ10_indexOf 14 = .ok (.istore_n 3, 1) := dk_62 (dk_at dksJ10_indexOf_0 14 rfl rfl)
theorem dJ10_indexOf_15 : decode cJ10_indexOf 15 = .ok (.iload_n 2, 1) := dk_28 (dk_at dksJ10_indexOf_0 15 rfl rfl)
theorem dJ10_indexOf_16 : decode cJ10_indexOf 16 = .ok (.iload_n 3, 1) := dk_29 (dk_at dksJ10_indexOf_0 16 rfl rfl)
theorem dJ10_indexOf_17 : decode cJ10_indexOf 17 = .ok (.if_icmp .lt 5, 3) := dk_161 0 5 (dk_at dksJ10_indexOf_0 17 rfl rfl)
theorem dJ10_indexOf_20 : decode cJ10_indexOf 20 = .ok (.iconst (-1), 1) := dk_2 (dk_at dksJ10_indexOf_0 20 rfl rfl)
theorem dJ10_indexOf_21 : decode cJ10_indexOf 21 = .ok (.ireturn, 1) := dk_172 (dk_at dksJ10_indexOf_0 21 rfl rfl)
theorem dJ10_indexOf_22 : decode cJ10_indexOf 22 = .ok (.iload_n 1, 1) := dk_27 (dk_at dksJ10_indexOf_0 22 rfl rfl)
theorem dJ10_indexOf_23 : decode cJ10_indexOf 23 = .ok (.ldc 227, 2) := dk_18 227 (dk_at dksJ10_indexOf_1 0 rfl rfl)
theorem dJ10_indexOf_25 : decode cJ10_indexOf 25 = .ok (.if_icmp .ge 11, 3) := dk_162 0 11 (dk_at dksJ10_indexOf_1 2 rfl rfl)
theorem dJ10_indexOf_28 : decode cJ10_indexOf 28 = .ok (.aload_n 0, 1) := dk_42 (dk_at dksJ10_indexOf_1 5 rfl rfl)
theorem dJ10_indexOf_29 : decode cJ10_indexOf 29 = .ok (.iload_n 1, 1) := dk_27 (dk_at dksJ10_indexOf_1 6 rfl rfl)
theorem dJ10_indexOf_30 : decode cJ10_indexOf 30 = .ok (.iload_n 2, 1) := dk_28 (dk_at dksJ10_indexOf_1 7 rfl rfl)
theorem dJ10_indexOf_31 : decode cJ10_indexOf 31 = .ok (.iload_n 3, 1) := dk_29 (dk_at dksJ10_indexOf_1 8 rfl rfl)
theorem dJ10_indexOf_32 : decode cJ10_indexOf 32 = .ok (.invokestatic 228, 3) := dk_184 0 228 (dk_at dksJ10_indexOf_1 9 rfl rfl)
theorem dJ10_indexOf_35 : decode cJ10_indexOf 35 = .ok (.ireturn, 1) := dk_172 (dk_at dksJ10_indexOf_1 12 rfl rfl)
theorem dJ10_indexOf_36 : decode cJ10_indexOf 36 = .ok (.aload_n 0, 1) := dk_42 (dk_at dksJ10_indexOf_1 13 rfl rfl)
theorem dJ10_indexOf_37 : decode cJ10_indexOf 37 = .ok (.iload_n 1, 1) := dk_27 (dk_at dksJ10_indexOf_1 14 rfl rfl)
theorem dJ10_indexOf_38 : decode cJ10_indexOf 38 = .ok (.iload_n 2, 1) := dk_28 (dk_at dksJ10_indexOf_1 15 rfl rfl)
theorem dJ10_indexOf_39 : decode cJ10_indexOf 39 = .ok (.iload_n 3, 1) := dk_29 (dk_at dksJ10_indexOf_1 16 rfl rfl)
theorem dJ10_indexOf_40 : decode cJ10_indexOf 40 = .ok (.invokestatic 232, 3) := dk_184 0 232 (dk_at dksJ10_indexOf_1 17 rfl rfl)
theorem dJ10_indexOf_43 : decode cJ10_indexOf 43 = .ok (.ireturn, 1) := dk_172 (dk_at dksJ10_indexOf_1 20 rfl rfl)
abbrev cJ10_indexOfChar : ByteArray := prog_45_method_47_code
def yJ10_indexOfChar : MethodName := ⟨RJ10, "indexOfChar", "([BIII)I"⟩
def dkwJ10_indexOfChar_0 : List UInt8 := [28, 29, 42, 184, 0, 96, 42, 27, 28, 29, 184, 0, 244, 172]
abbrev dktJ10_indexOfChar_0 : List UInt8 := dkwJ10_indexOfChar_0 ++ []
theorem dksJ10_indexOfChar_0 : cJ10_indexOfChar.data.toList.drop 0 = dktJ10_indexOfChar_0 := by decide +kernel
theorem dJ10_indexOfChar_0 : decode cJ10_indexOfChar 0 = .ok (.iload_n 2, 1) := dk_28 (dk_at dksJ10_indexOfChar_0 0 rfl rfl)
theorem dJ10_indexOfChar_1 : decode cJ10_indexOfChar 1 = .ok (.iload_n 3, 1) := dk_29 (dk_at dksJ10_indexOfChar_0 1 rfl rfl)
theorem dJ10_indexOfChar_2 : decode cJ10_indexOfChar 2 = .ok (.aload_n 0, 1) := dk_42 (dk_at dksJ10_indexOfChar_0 2 rfl rfl)
theorem dJ10_indexOfChar_3 : decode cJ10_indexOfChar 3 = .ok (.invokestatic 96, 3) := dk_184 0 96 (dk_at dksJ10_indexOfChar_0 3 rfl rfl)
theorem dJ10_indexOfChar_6 : decode cJ10_indexOfChar 6 = .ok (.aload_n 0, 1) := dk_42 (dk_at dksJ10_indexOfChar_0 6 rfl rfl)
theorem dJ10_indexOfChar_7 : decode cJ10_indexOfChar 7 = .ok (.iload_n 1, 1) := dk_27 (dk_at dksJ10_indexOfChar_0 7 rfl rfl)
theorem dJ10_indexOfChar_8 : decode cJ10_indexOfChar 8 = .ok (.iload_n 2, 1) := dk_28 (dk_at dksJ10_indexOfChar_0 8 rfl rfl)
theorem dJ10_indexOfChar_9 : decode cJ10_indexOfChar 9 = .ok (.iload_n 3, 1) := dk_29 (dk_at dksJ10_indexOfChar_0 9 rfl rfl)
theorem dJ10_indexOfChar_10 : decode cJ10_indexOfChar 10 = .ok (.invokestatic 244, 3) := dk_184 0 244 (dk_at dksJ10_indexOfChar_0 10 rfl rfl)
theorem dJ10_indexOfChar_13 : decode cJ10_indexOfChar 13 = .ok (.ireturn, 1) := dk_172 (dk_at dksJ10_indexOfChar_0 13 rfl rfl)
abbrev cJ10_checkBoundsBeginEnd : ByteArray := prog_45_method_93_code
def yJ10_checkBoundsBeginEnd : MethodName := ⟨RJ10, "checkBoundsBeginEnd", "(II[B)V"⟩
def dkwJ10_checkBoundsBeginEnd_0 : List UInt8 := [26, 27, 44, 184, 0, 48, 184, 0, 241, 177]
abbrev dktJ10_checkBoundsBeginEnd_0 : List UInt8 := dkwJ10_checkBoundsBeginEnd_0 ++ []
theorem dksJ10_checkBoundsBeginEnd_0 : cJ10_checkBoundsBeginEnd.data.toList.drop 0 = dktJ10_checkBoundsBeginEnd_0 := by decide +kernel
theorem dJ10_checkBoundsBeginEnd_0 : decode cJ10_checkBoundsBeginEnd 0 = .ok (.iload_n 0, 1) := dk_26 (dk_at dksJ10_checkBoundsBeginEnd_0 0 rfl rfl)
theorem dJ10_checkBoundsBeginEnd_1 : decode cJ10_checkBoundsBeginEnd 1 = .ok (.iload_n 1, 1) := dk_27 (dk_at dksJ10_checkBoundsBeginEnd_0 1 rfl rfl)
theorem dJ10_checkBoundsBeginEnd_2 : decode cJ10_checkBoundsBeginEnd 2 = .ok (.aload_n 2, 1) := dk_44 (dk_at dksJ10_checkBoundsBeginEnd_0 2 rfl rfl)
theorem dJ10_checkBoundsBeginEnd_3 : decode cJ10_checkBoundsBeginEnd 3 = .ok (.invokestatic 48, 3) := dk_184 0 48 (dk_at dksJ10_checkBoundsBeginEnd_0 3 rfl rfl)
theorem dJ10_checkBoundsBeginEnd_6 : decode cJ10_checkBoundsBeginEnd 6 = .ok (.invokestatic 241, 3) := dk_184 0 241 (dk_at dksJ10_checkBoundsBeginEnd_0 6 rfl rfl)
theorem dJ10_checkBoundsBeginEnd_9 : decode cJ10_checkBoundsBeginEnd 9 = .ok (.return_, 1) := dk_177 (dk_at dksJ10_checkBoundsBeginEnd_0 9 rfl rfl)
abbrev cJ10_length : ByteArray := prog_45_method_6_code
def yJ10_length : MethodName := ⟨RJ10, "length", "([B)I"⟩
def dkwJ10_length_0 : List UInt8 := [42, 190, 4, 122, 172]
abbrev dktJ10_length_0 : List UInt8 := dkwJ10_length_0 ++ []
theorem dksJ10_length_0 : cJ10_length.data.toList.drop 0 = dktJ10_length_0 := by decide +kernel
theorem dJ10_length_0 : decode cJ10_length 0 = .ok (.aload_n 0, 1) := dk_42 (dk_at dksJ10_length_0 0 rfl rfl)
theorem dJ10_length_1 : decode cJ10_length 1 = .ok (.arraylength, 1) := dk_190 (dk_at dksJ10_length_0 1 rfl rfl)
theorem dJ10_length_2 : decode cJ10_length 2 = .ok (.iconst 1, 1) := dk_4 (dk_at dksJ10_length_0 2 rfl rfl)
theorem dJ10_length_3 : decode cJ10_length 3 = .ok (.ishr, 1) := dk_122 (dk_at dksJ10_length_0 3 rfl rfl)
theorem dJ10_length_4 : decode cJ10_length 4 = .ok (.ireturn, 1) := dk_172 (dk_at dksJ10_length_0 4 rfl rfl)
abbrev cJ10_indexOfCharUnsafe : ByteArray := prog_45_method_48_code
def yJ10_indexOfCharUnsafe : MethodName := ⟨RJ10, "indexOfCharUnsafe", "([BIII)I"⟩
def dkwJ10_indexOfCharUnsafe_1 : List UInt8 := [132, 4, 1, 167, 255, 234, 2, 172]
abbrev dktJ10_indexOfCharUnsafe_1 : List UInt8 := dkwJ10_indexOfCharUnsafe_1 ++ []
def dkwJ10_indexOfCharUnsafe_0 : List UInt8 := [28, 54, 4, 21, 4, 29, 162, 0, 22, 42, 21, 4, 184, 0, 71, 27, 160, 0, 6, 21, 4, 172]
abbrev dktJ10_indexOfCharUnsafe_0 : List UInt8 := dkwJ10_indexOfCharUnsafe_0 ++ dktJ10_indexOfCharUnsafe_1
theorem dksJ10_indexOfCharUnsafe_0 : cJ10_indexOfCharUnsafe.data.toList.drop 0 = dktJ10_indexOfCharUnsafe_0 := by decide +kernel
theorem dksJ10_indexOfCharUnsafe_1 : cJ10_indexOfCharUnsafe.data.toList.drop 22 = dktJ10_indexOfCharUnsafe_1 := dk_seg dksJ10_indexOfCharUnsafe_0 22 rfl rfl
theorem dJ10_indexOfCharUnsafe_0 : decode cJ10_indexOfCharUnsafe 0 = .ok (.iload_n 2, 1) := dk_28 (dk_at dksJ10_indexOfCharUnsafe_0 0 rfl rfl)
theorem dJ10_indexOfCharUnsafe_1 : decode cJ10_indexOfCharUnsafe 1 = .ok (.istore 4, 2) := dk_54 4 (dk_at dksJ10_indexOfCharUnsafe_0 1 rfl rfl)
theorem dJ10_indexOfCharUnsafe_3 : decode cJ10_indexOfCharUnsafe 3 = .ok (.iload 4, 2) := dk_21 4 (dk_at dksJ10_indexOfCharUnsafe_0 3 rfl rfl)
theorem dJ10_indexOfCharUnsafe_5 : decode cJ10_indexOfCharUnsafe 5 = .ok (.iload_n 3, 1) := dk_29 (dk_at dksJ10_indexOfCharUnsafe_0 5 rfl rfl)
theorem dJ10_indexOfCharUnsafe_6 : decode cJ10_indexOfCharUnsafe 6 = .ok (.if_icmp .ge 22, 3) := dk_162 0 22 (dk_at dksJ10_indexOfCharUnsafe_0 6 rfl rfl)
theorem dJ10_indexOfCharUnsafe_9 : decode cJ10_indexOfCharUnsafe 9 = .ok (.aload_n 0, 1) := dk_42 (dk_at dksJ10_indexOfCharUnsafe_0 9 rfl rfl)
theorem dJ10_indexOfCharUnsafe_10 : decode cJ10_indexOfCharUnsafe 10 = .ok (.iload 4, 2) := dk_21 4 (dk_at dksJ10_indexOfCharUnsafe_0 10 rfl rfl)
theorem dJ10_indexOfCharUnsafe_12 : decode cJ10_indexOfCharUnsafe 12 = .ok (.invokestatic 71, 3) := dk_184 0 71 (dk_at dksJ10_indexOfCharUnsafe_0 12 rfl rfl)
theorem dJ10_indexOfCharUnsafe_15 : decode cJ10_indexOfCharUnsafe 15 = .ok (.iload_n 1, 1) := dk_27 (dk_at dksJ10_indexOfCharUnsafe_0 15 rfl rfl)
theorem dJ10_indexOfCharUnsafe_16 : decode cJ10_indexOfCharUnsafe 16 = .ok (.if_icmp .ne 6, 3) := dk_160 0 6 (dk_at dksJ10_indexOfCharUnsafe_0 16 rfl rfl)
theorem dJ10_indexOfCharUnsafe_19 : decode cJ10_indexOfCharUnsafe 19 = .ok (.iload 4, 2) := dk_21 4 (dk_at dksJ10_indexOfCharUnsafe_0 19 rfl rfl)
theorem dJ10_indexOfCharUnsafe_21 : decode cJ10_indexOfCharUnsafe 21 = .ok (.ireturn, 1) := dk_172 (dk_at dksJ10_indexOfCharUnsafe_0 21 rfl rfl)
theorem dJ10_indexOfCharUnsafe_22 : decode cJ10_indexOfCharUnsafe 22 = .ok (.iinc 4 1, 3) := dk_132 4 1 (dk_at dksJ10_indexOfCharUnsafe_1 0 rfl rfl)
theorem dJ10_indexOfCharUnsafe_25 : decode cJ10_indexOfCharUnsafe 25 = .ok (.goto (-22), 3) := dk_167 255 234 (dk_at dksJ10_indexOfCharUnsafe_1 3 rfl rfl)
theorem dJ10_indexOfCharUnsafe_28 : decode cJ10_indexOfCharUnsafe 28 = .ok (.iconst (-1), 1) := dk_2 (dk_at dksJ10_indexOfCharUnsafe_1 6 rfl rfl)
theorem dJ10_indexOfCharUnsafe_29 : decode cJ10_indexOfCharUnsafe 29 = .ok (.ireturn, 1) := dk_172 (dk_at dksJ10_indexOfCharUnsafe_1 7 rfl rfl)
abbrev cJ10_getChar : ByteArray := prog_45_method_5_code
def yJ10_getChar : MethodName := ⟨RJ10, "getChar", "([BI)C"⟩
def dkwJ10_getChar_2 : List UInt8 := [51, 17, 0, 255, 126, 178, 0, 63, 120, 128, 146, 172]
abbrev dktJ10_getChar_2 : List UInt8 := dkwJ10_getChar_2 ++ []
def dkwJ10_getChar_1 : List UInt8 := [183, 0, 56, 191, 27, 4, 120, 60, 42, 27, 132, 1, 1, 51, 17, 0, 255, 126, 178, 0, 59, 120, 42, 27]
abbrev dktJ10_getChar_1 : List UInt8 := dkwJ10_getChar_1 ++ dktJ10_getChar_2
def dkwJ10_getChar_0 : List UInt8 := [178, 0, 44, 154, 0, 25, 27, 155, 0, 11, 27, 42, 184, 0, 48, 161, 0, 13, 187, 0, 52, 89, 18, 54]
abbrev dktJ10_getChar_0 : List UInt8 := dkwJ10_getChar_0 ++ dktJ10_getChar_1
theorem dksJ10_getChar_0 : cJ10_getChar.data.toList.drop 0 = dktJ10_getChar_0 := by decide +kernel
theorem dksJ10_getChar_1 : cJ10_getChar.data.toList.drop 24 = dktJ10_getChar_1 := dk_seg dksJ10_getChar_0 24 rfl rfl
theorem dksJ10_getChar_2 : cJ10_getChar.data.toList.drop 48 = dktJ10_getChar_2 := dk_seg dksJ10_getChar_1 24 rfl rfl
theorem dJ10_getChar_0 : decode cJ10_getChar 0 = .ok (.getstatic 44, 3) := dk_178 0 44 (dk_at dksJ10_getChar_0 0 rfl rfl)
theorem dJ10_getChar_3 : decode cJ10_getChar 3 = .ok (.ifCond .ne 25, 3) := dk_154 0 25 (dk_at dksJ10_getChar_0 3 rfl rfl)
theorem dJ10_getChar_6 : decode cJ10_getChar 6 = .ok (.iload_n 1, 1) := dk_27 (dk_at dksJ10_getChar_0 6 rfl rfl)
theorem dJ10_getChar_7 : decode cJ10_getChar 7 = .ok (.ifCond .lt 11, 3) := dk_155 0 11 (dk_at dksJ10_getChar_0 7 rfl rfl)
theorem dJ10_getChar_10 : decode cJ10_getChar 10 = .ok (.iload_n 1, 1) := dk_27 (dk_at dksJ10_getChar_0 10 rfl rfl)
theorem dJ10_getChar_11 : decode cJ10_getChar 11 = .ok (.aload_n 0, 1) := dk_42 (dk_at dksJ10_getChar_0 11 rfl rfl)
theorem dJ10_getChar_12 : decode cJ10_getChar 12 = .ok (.invokestatic 48, 3) := dk_184 0 48 (dk_at dksJ10_getChar_0 12 rfl rfl)
theorem dJ10_getChar_15 : decode cJ10_getChar 15 = .ok (.if_icmp .lt 13, 3) := dk_161 0 13 (dk_at dksJ10_getChar_0 15 rfl rfl)
theorem dJ10_getChar_18 : decode cJ10_getChar 18 = .ok (.new 52, 3) := dk_187 0 52 (dk_at dksJ10_getChar_0 18 rfl rfl)
theorem dJ10_getChar_21 : decode cJ10_getChar 21 = .ok (.dup, 1) := dk_89 (dk_at dksJ10_getChar_0 21 rfl rfl)
theorem dJ10_getChar_22 : decode cJ10_getChar 22 = .ok (.ldc 54, 2) := dk_18 54 (dk_at dksJ10_getChar_0 22 rfl rfl)
theorem dJ10_getChar_24 : decode cJ10_getChar 24 = .ok (.invokespecial 56, 3) := dk_183 0 56 (dk_at dksJ10_getChar_1 0 rfl rfl)
theorem dJ10_getChar_27 : decode cJ10_getChar 27 = .ok (.athrow, 1) := dk_191 (dk_at dksJ10_getChar_1 3 rfl rfl)
theorem dJ10_getChar_28 : decode cJ10_getChar 28 = .ok (.iload_n 1, 1) := dk_27 (dk_at dksJ10_getChar_1 4 rfl rfl)
theorem dJ10_getChar_29 : decode cJ10_getChar 29 = .ok (.iconst 1, 1) := dk_4 (dk_at dksJ10_getChar_1 5 rfl rfl)
theorem dJ10_getChar_30 : decode cJ10_getChar 30 = .ok (.ishl, 1) := dk_120 (dk_at dksJ10_getChar_1 6 rfl rfl)
theorem dJ10_getChar_31 : decode cJ10_getChar 31 = .ok (.istore_n 1, 1) := dk_60 (dk_at dksJ10_getChar_1 7 rfl rfl)
theorem dJ10_getChar_32 : decode cJ10_getChar 32 = .ok (.aload_n 0, 1) := dk_42 (dk_at dksJ10_getChar_1 8 rfl rfl)
theorem dJ10_getChar_33 : decode cJ10_getChar 33 = .ok (.iload_n 1, 1) := dk_27 (dk_at dksJ10_getChar_1 9 rfl rfl)
theorem dJ10_getChar_34 : decode cJ10_getChar 34 = .ok (.iinc 1 1, 3) := dk_132 1 1 (dk_at dksJ10_getChar_1 10 rfl rfl)
theorem dJ10_getChar_37 : decode cJ10_getChar 37 = .ok (.baload, 1) := dk_51 (dk_at dksJ10_getChar_1 13 rfl rfl)
theorem dJ10_getChar_38 : decode cJ10_getChar 38 = .ok (.sipush 255, 3) := dk_17 0 255 (dk_at dksJ10_getChar_1 14 rfl rfl)
theorem dJ10_getChar_41 : decode cJ10_getChar 41 = .ok (.iand, 1) := dk_126 (dk_at dksJ10_getChar_1 17 rfl rfl)
theorem dJ10_getChar_42 : decode cJ10_getChar 42 = .ok (.getstatic 59, 3) := dk_178 0 59 (dk_at dksJ10_getChar_1 18 rfl rfl)
theorem dJ10_getChar_45 : decode cJ10_getChar 45 = .ok (.ishl, 1) := dk_120 (dk_at dksJ10_getChar_1 21 rfl rfl)
theorem dJ10_getChar_46 : decode cJ10_getChar 46 = .ok (.aload_n 0, 1) := dk_42 (dk_at dksJ10_getChar_1 22 rfl rfl)
theorem dJ10_getChar_47 : decode cJ10_getChar 47 = .ok (.iload_n 1, 1) := dk_27 (dk_at dksJ10_getChar_1 23 rfl rfl)
theorem dJ10_getChar_48 : decode cJ10_getChar 48 = .ok (.baload, 1) := dk_51 (dk_at dksJ10_getChar_2 0 rfl rfl)
theorem dJ10_getChar_49 : decode cJ10_getChar 49 = .ok (.sipush 255, 3) := dk_17 0 255 (dk_at dksJ10_getChar_2 1 rfl rfl)
theorem dJ10_getChar_52 : decode cJ10_getChar 52 = .ok (.iand, 1) := dk_126 (dk_at dksJ10_getChar_2 4 rfl rfl)
theorem dJ10_getChar_53 : decode cJ10_getChar 53 = .ok (.getstatic 63, 3) := dk_178 0 63 (dk_at dksJ10_getChar_2 5 rfl rfl)
theorem dJ10_getChar_56 : decode cJ10_getChar 56 = .ok (.ishl, 1) := dk_120 (dk_at dksJ10_getChar_2 8 rfl rfl)
theorem dJ10_getChar_57 : decode cJ10_getChar 57 = .ok (.ior, 1) := dk_128 (dk_at dksJ10_getChar_2 9 rfl rfl)
theorem dJ10_getChar_58 : decode cJ10_getChar 58 = .ok (.i2c, 1) := dk_146 (dk_at dksJ10_getChar_2 10 rfl rfl)
theorem dJ10_getChar_59 : decode cJ10_getChar 59 = .ok (.ireturn, 1) := dk_172 (dk_at dksJ10_getChar_2 11 rfl rfl)
abbrev cJ10_indexOfSupplementary : ByteArray := prog_45_method_49_code
def yJ10_indexOfSupplementary : MethodName := ⟨RJ10, "indexOfSupplementary", "([BIII)I"⟩
def dkwJ10_indexOfSupplementary_3 : List UInt8 := [167, 255, 218, 2, 172]
abbrev dktJ10_indexOfSupplementary_3 : List UInt8 := dkwJ10_indexOfSupplementary_3 ++ []
def dkwJ10_indexOfSupplementary_2 : List UInt8 := [160, 0, 19, 42, 21, 6, 4, 96, 184, 0, 71, 21, 5, 160, 0, 6, 21, 6, 172, 132, 6, 1]
abbrev dktJ10_indexOfSupplementary_2 : List UInt8 := dkwJ10_indexOfSupplementary_2 ++ dktJ10_indexOfSupplementary_3
def dkwJ10_indexOfSupplementary_1 : List UInt8 := [184, 0, 96, 28, 54, 6, 21, 6, 29, 4, 100, 162, 0, 36, 42, 21, 6, 184, 0, 71, 21, 4]
abbrev dktJ10_indexOfSupplementary_1 : List UInt8 := dkwJ10_indexOfSupplementary_1 ++ dktJ10_indexOfSupplementary_2
def dkwJ10_indexOfSupplementary_0 : List UInt8 := [27, 184, 0, 164, 153, 0, 65, 27, 184, 0, 157, 54, 4, 27, 184, 0, 161, 54, 5, 28, 29, 42]
abbrev dktJ10_indexOfSupplementary_0 : List UInt8 := dkwJ10_indexOfSupplementary_0 ++ dktJ10_indexOfSupplementary_1
theorem dksJ10_indexOfSupplementary_0 : cJ10_indexOfSupplementary.data.toList.drop 0 = dktJ10_indexOfSupplementary_0 := by decide +kernel
theorem dksJ10_indexOfSupplementary_1 : cJ10_indexOfSupplementary.data.toList.drop 22 = dktJ10_indexOfSupplementary_1 := dk_seg dksJ10_indexOfSupplementary_0 22 rfl rfl
theorem dksJ10_indexOfSupplementary_2 : cJ10_indexOfSupplementary.data.toList.drop 44 = dktJ10_indexOfSupplementary_2 := dk_seg dksJ10_indexOfSupplementary_1 22 rfl rfl
theorem dksJ10_indexOfSupplementary_3 : cJ10_indexOfSupplementary.data.toList.drop 66 = dktJ10_indexOfSupplementary_3 := dk_seg dksJ10_indexOfSupplementary_2 22 rfl rfl
theorem dJ10_indexOfSupplementary_0 : decode cJ10_indexOfSupplementary 0 = .ok (.iload_n 1, 1) := dk_27 (dk_at dksJ10_indexOfSupplementary_0 0 rfl rfl)
theorem dJ10_indexOfSupplementary_1 : decode cJ10_indexOfSupplementary 1 = .ok (.invokestatic 164, 3) := dk_184 0 164 (dk_at dksJ10_indexOfSupplementary_0 1 rfl rfl)
theorem dJ10_indexOfSupplementary_4 : decode cJ10_indexOfSupplementary 4 = .ok (.ifCond .eq 65, 3) := dk_153 0 65 (dk_at dksJ10_indexOfSupplementary_0 4 rfl rfl)
theorem dJ10_indexOfSupplementary_7 : decode cJ10_indexOfSupplementary 7 = .ok (.iload_n 1, 1) := dk_27 (dk_at dksJ10_indexOfSupplementary_0 7 rfl rfl)
theorem dJ10_indexOfSupplementary_8 : decode cJ10_indexOfSupplementary 8 = .ok (.invokestatic 157, 3) := dk_184 0 157 (dk_at dksJ10_indexOfSupplementary_0 8 rfl rfl)
theorem dJ10_indexOfSupplementary_11 : decode cJ10_indexOfSupplementary 11 = .ok (.istore 4, 2) := dk_54 4 (dk_at dksJ10_indexOfSupplementary_0 11 rfl rfl)
theorem dJ10_indexOfSupplementary_13 : decode cJ10_indexOfSupplementary 13 = .ok (.iload_n 1, 1) := dk_27 (dk_at dksJ10_indexOfSupplementary_0 13 rfl rfl)
theorem dJ10_indexOfSupplementary_14 : decode cJ10_indexOfSupplementary 14 = .ok (.invokestatic 161, 3) := dk_184 0 161 (dk_at dksJ10_indexOfSupplementary_0 14 rfl rfl)
theorem dJ10_indexOfSupplementary_17 : decode cJ10_indexOfSupplementary 17 = .ok (.istore 5, 2) := dk_54 5 (dk_at dksJ10_indexOfSupplementary_0 17 rfl rfl)
theorem dJ10_indexOfSupplementary_19 : decode cJ10_indexOfSupplementary 19 = .ok (.iload_n 2, 1) := dk_28 (dk_at dksJ10_indexOfSupplementary_0 19 rfl rfl)
theorem dJ10_indexOfSupplementary_20 : decode cJ10_indexOfSupplementary 20 = .ok (.iload_n 3, 1) := dk_29 (dk_at dksJ10_indexOfSupplementary_0 20 rfl rfl)
theorem dJ10_indexOfSupplementary_21 : decode cJ10_indexOfSupplementary 21 = .ok (.aload_n 0, 1) := dk_42 (dk_at dksJ10_indexOfSupplementary_0 21 rfl rfl)
theorem dJ10_indexOfSupplementary_22 : decode cJ10_indexOfSupplementary 22 = .ok (.invokestatic 96, 3) := dk_184 0 96 (dk_at dksJ10_indexOfSupplementary_1 0 rfl rfl)
theorem dJ10_indexOfSupplementary_25 : decode cJ10_indexOfSupplementary 25 = .ok (.iload_n 2, 1) := dk_28 (dk_at dksJ10_indexOfSupplementary_1 3 rfl rfl)
theorem dJ10_indexOfSupplementary_26 : decode cJ10_indexOfSupplementary 26 = .ok (.istore 6, 2) := dk_54 6 (dk_at dksJ10_indexOfSupplementary_1 4 rfl rfl)
theorem dJ10_indexOfSupplementary_28 : decode cJ10_indexOfSupplementary 28 = .ok (.iload 6, 2) := dk_21 6 (dk_at dksJ10_indexOfSupplementary_1 6 rfl rfl)
theorem dJ10_indexOfSupplementary_30 : decode cJ10_indexOfSupplementary 30 = .ok (.iload_n 3, 1) := dk_29 (dk_at dksJ10_indexOfSupplementary_1 8 rfl rfl)
theorem dJ10_indexOfSupplementary_31 : decode cJ10_indexOfSupplementary 31 = .ok (.iconst 1, 1) := dk_4 (dk_at dksJ10_indexOfSupplementary_1 9 rfl rfl)
theorem dJ10_indexOfSupplementary_32 : decode cJ10_indexOfSupplementary 32 = .ok (.isub, 1) := dk_100 (dk_at dksJ10_indexOfSupplementary_1 10 rfl rfl)
theorem dJ10_indexOfSupplementary_33 : decode cJ10_indexOfSupplementary 33 = .ok (.if_icmp .ge 36, 3) := dk_162 0 36 (dk_at dksJ10_indexOfSupplementary_1 11 rfl rfl)
theorem dJ10_indexOfSupplementary_36 : decode cJ10_indexOfSupplementary 36 = .ok (.aload_n 0, 1) := dk_42 (dk_at dksJ10_indexOfSupplementary_1 14 rfl rfl)
theorem dJ10_indexOfSupplementary_37 : decode cJ10_indexOfSupplementary 37 = .ok (.iload 6, 2) := dk_21 6 (dk_at dksJ10_indexOfSupplementary_1 15 rfl rfl)
theorem dJ10_indexOfSupplementary_39 : decode cJ10_indexOfSupplementary 39 = .ok (.invokestatic 71, 3) := dk_184 0 71 (dk_at dksJ10_indexOfSupplementary_1 17 rfl rfl)
theorem dJ10_indexOfSupplementary_42 : decode cJ10_indexOfSupplementary 42 = .ok (.iload 4, 2) := dk_21 4 (dk_at dksJ10_indexOfSupplementary_1 20 rfl rfl)
theorem dJ10_indexOfSupplementary_44 : decode cJ10_indexOfSupplementary 44 = .ok (.if_icmp .ne 19, 3) := dk_160 0 19 (dk_at dksJ10_indexOfSupplementary_2 0 rfl rfl)
theorem dJ10_indexOfSupplementary_47 : decode cJ10_indexOfSupplementary 47 = .ok (.aload_n 0, 1) := dk_42 (dk_at dksJ10_indexOfSupplementary_2 3 rfl rfl)
theorem dJ10_indexOfSupplementary_48 : decode cJ10_indexOfSupplementary 48 = .ok (.iload 6, 2) := dk_21 6 (dk_at dksJ10_indexOfSupplementary_2 4 rfl rfl)
theorem dJ10_indexOfSupplementary_50 : decode cJ10_indexOfSupplementary 50 = .ok (.iconst 1, 1) := dk_4 (dk_at dksJ10_indexOfSupplementary_2 6 rfl rfl)
theorem dJ10_indexOfSupplementary_51 : decode cJ10_indexOfSupplementary 51 = .ok (.iadd, 1) := dk_96 (dk_at dksJ10_indexOfSupplementary_2 7 rfl rfl)
theorem dJ10_indexOfSupplementary_52 : decode cJ10_indexOfSupplementary 52 = .ok (.invokestatic 71, 3) := dk_184 0 71 (dk_at dksJ10_indexOfSupplementary_2 8 rfl rfl)
theorem dJ10_indexOfSupplementary_55 : decode cJ10_indexOfSupplementary 55 = .ok (.iload 5, 2) := dk_21 5 (dk_at dksJ10_indexOfSupplementary_2 11 rfl rfl)
theorem dJ10_indexOfSupplementary_57 : decode cJ10_indexOfSupplementary 57 = .ok (.if_icmp .ne 6, 3) := dk_160 0 6 (dk_at dksJ10_indexOfSupplementary_2 13 rfl rfl)
theorem dJ10_indexOfSupplementary_60 : decode cJ10_indexOfSupplementary 60 = .ok (.iload 6, 2) := dk_21 6 (dk_at dksJ10_indexOfSupplementary_2 16 rfl rfl)
theorem dJ10_indexOfSupplementary_62 : decode cJ10_indexOfSupplementary 62 = .ok (.ireturn, 1) := dk_172 (dk_at dksJ10_indexOfSupplementary_2 18 rfl rfl)
theorem dJ10_indexOfSupplementary_63 : decode cJ10_indexOfSupplementary 63 = .ok (.iinc 6 1, 3) := dk_132 6 1 (dk_at dksJ10_indexOfSupplementary_2 19 rfl rfl)
theorem dJ10_indexOfSupplementary_66 : decode cJ10_indexOfSupplementary 66 = .ok (.goto (-38), 3) := dk_167 255 218 (dk_at dksJ10_indexOfSupplementary_3 0 rfl rfl)
theorem dJ10_indexOfSupplementary_69 : decode cJ10_indexOfSupplementary 69 = .ok (.iconst (-1), 1) := dk_2 (dk_at dksJ10_indexOfSupplementary_3 3 rfl rfl)
theorem dJ10_indexOfSupplementary_70 : decode cJ10_indexOfSupplementary 70 = .ok (.ireturn, 1) := dk_172 (dk_at dksJ10_indexOfSupplementary_3 4 rfl rfl)
theorem q100 : (Jvm.Cond.initialized "java/lang/StringUTF16") ∈ lw_all := lw_g (lw_at lw_m1 19 rfl) rfl
theorem q651 : (Jvm.Cond.static ({ cls := "java/lang/StringUTF16", name := "indexOf", desc := "([BIII)I" } : Jvm.MethodName)) ∈ lw_all := lw_g (lw_at lw_m3 90 rfl) rfl
theorem q652 : (Jvm.Cond.code ({ cls := "java/lang/StringUTF16", name := "indexOf", desc := "([BIII)I" } : Jvm.MethodName) prog_45_method_40_code (4 : Nat) (Option.some Jvm.ClassFile.FieldType.int)) ∈ lw_all := lw_g (lw_at lw_m3 91 rfl) rfl
theorem q653 : (Jvm.Cond.methodLink "java/lang/StringUTF16" (224 : Nat) ({ cls := "java/lang/Math", name := "max", desc := "(II)I" } : Jvm.MethodName)) ∈ lw_all := lw_g (lw_at lw_m3 92 rfl) rfl
theorem q654 : (Jvm.Cond.methodLink "java/lang/StringUTF16" (183 : Nat) ({ cls := "java/lang/Math", name := "min", desc := "(II)I" } : Jvm.MethodName)) ∈ lw_all := lw_g (lw_at lw_m3 93 rfl) rfl
theorem q655 : (Jvm.Cond.constant "java/lang/StringUTF16" (227 : Nat) (65536 : Int32)) ∈ lw_all := lw_g (lw_at lw_m3 94 rfl) rfl
theorem q656 : (Jvm.Cond.methodLink "java/lang/StringUTF16" (228 : Nat) ({ cls := "java/lang/StringUTF16", name := "indexOfChar", desc := "([BIII)I" } : Jvm.MethodName)) ∈ lw_all := lw_g (lw_at lw_m3 95 rfl) rfl
theorem q657 : (Jvm.Cond.static ({ cls := "java/lang/StringUTF16", name := "indexOfChar", desc := "([BIII)I" } : Jvm.MethodName)) ∈ lw_all := lw_g (lw_at lw_m3 96 rfl) rfl
theorem q658 : (Jvm.Cond.code ({ cls := "java/lang/StringUTF16", name := "indexOfChar", desc := "([BIII)I" } : Jvm.MethodName) prog_45_method_47_code (4 : Nat) (Option.some Jvm.ClassFile.FieldType.int)) ∈ lw_all := lw_g (lw_at lw_m3 97 rfl) rfl
theorem q659 : (Jvm.Cond.methodLink "java/lang/StringUTF16" (96 : Nat) ({ cls := "java/lang/StringUTF16", name := "checkBoundsBeginEnd", desc := "(II[B)V" } : Jvm.MethodName)) ∈ lw_all := lw_g (lw_at lw_m3 98 rfl) rfl
theorem q660 : (Jvm.Cond.static ({ cls := "java/lang/StringUTF16", name := "checkBoundsBeginEnd", desc := "(II[B)V" } : Jvm.MethodName)) ∈ lw_all := lw_g (lw_at lw_m3 99 rfl) rfl
theorem q661 : (Jvm.Cond.code ({ cls := "java/lang/StringUTF16", name := "checkBoundsBeginEnd", desc := "(II[B)V" } : Jvm.MethodName) prog_45_method_93_code (3 : Nat) (Option.none : Option Jvm.ClassFile.FieldType)) ∈ lw_all := lw_g (lw_at lw_m3 100 rfl) rfl
theorem q662 : (Jvm.Cond.methodLink "java/lang/StringUTF16" (48 : Nat) ({ cls := "java/lang/StringUTF16", name := "length", desc := "([B)I" } : Jvm.MethodName)) ∈ lw_all := lw_g (lw_at lw_m3 101 rfl) rfl
theorem q663 : (Jvm.Cond.static ({ cls := "java/lang/StringUTF16", name := "length", desc := "([B)I" } : Jvm.MethodName)) ∈ lw_all := lw_g (lw_at lw_m3 102 rfl) rfl
theorem q664 : (Jvm.Cond.code ({ cls := "java/lang/StringUTF16", name := "length", desc := "([B)I" } : Jvm.MethodName) prog_45_method_6_code (1 : Nat) (Option.some Jvm.ClassFile.FieldType.int)) ∈ lw_all := lw_g (lw_at lw_m3 103 rfl) rfl
theorem q665 : (Jvm.Cond.methodLink "java/lang/StringUTF16" (241 : Nat) ({ cls := "java/lang/String", name := "checkBoundsBeginEnd", desc := "(III)V" } : Jvm.MethodName)) ∈ lw_all := lw_g (lw_at lw_m3 104 rfl) rfl
theorem q673 : (Jvm.Cond.methodLink "java/lang/StringUTF16" (244 : Nat) ({ cls := "java/lang/StringUTF16", name := "indexOfCharUnsafe", desc := "([BIII)I" } : Jvm.MethodName)) ∈ lw_all := lw_g (lw_at lw_m3 112 rfl) rfl
theorem q674 : (Jvm.Cond.static ({ cls := "java/lang/StringUTF16", name := "indexOfCharUnsafe", desc := "([BIII)I" } : Jvm.MethodName)) ∈ lw_all := lw_g (lw_at lw_m3 113 rfl) rfl
theorem q675 : (Jvm.Cond.code ({ cls := "java/lang/StringUTF16", name := "indexOfCharUnsafe", desc := "([BIII)I" } : Jvm.MethodName) prog_45_method_48_code (5 : Nat) (Option.some Jvm.ClassFile.FieldType.int)) ∈ lw_all := lw_g (lw_at lw_m3 114 rfl) rfl
theorem q676 : (Jvm.Cond.methodLink "java/lang/StringUTF16" (71 : Nat) ({ cls := "java/lang/StringUTF16", name := "getChar", desc := "([BI)C" } : Jvm.MethodName)) ∈ lw_all := lw_g (lw_at lw_m3 115 rfl) rfl
theorem q677 : (Jvm.Cond.static ({ cls := "java/lang/StringUTF16", name := "getChar", desc := "([BI)C" } : Jvm.MethodName)) ∈ lw_all := lw_g (lw_at lw_m3 116 rfl) rfl
theorem q678 : (Jvm.Cond.code ({ cls := "java/lang/StringUTF16", name := "getChar", desc := "([BI)C" } : Jvm.MethodName) prog_45_method_5_code (2 : Nat) (Option.some Jvm.ClassFile.FieldType.char)) ∈ lw_all := lw_g (lw_at lw_m3 117 rfl) rfl
theorem q679 : (Jvm.Cond.fieldLink "java/lang/StringUTF16" (44 : Nat) "java/lang/StringUTF16" "$assertionsDisabled" "Z") ∈ lw_all := lw_g (lw_at lw_m3 118 rfl) rfl
theorem q680 : (Jvm.Cond.laysStatic "java/lang/StringUTF16" "$assertionsDisabled" "Z") ∈ lw_tbl := lw_at lw_m3 119 rfl
theorem q681 : (Jvm.Cond.fieldLink "java/lang/StringUTF16" (59 : Nat) "java/lang/StringUTF16" "HI_BYTE_SHIFT" "I") ∈ lw_all := lw_g (lw_at lw_m3 120 rfl) rfl
theorem q682 : (Jvm.Cond.laysStatic "java/lang/StringUTF16" "HI_BYTE_SHIFT" "I") ∈ lw_tbl := lw_at lw_m3 121 rfl
theorem q683 : (Jvm.Cond.fieldLink "java/lang/StringUTF16" (63 : Nat) "java/lang/StringUTF16" "LO_BYTE_SHIFT" "I") ∈ lw_all := lw_g (lw_at lw_m3 122 rfl) rfl
theorem q684 : (Jvm.Cond.laysStatic "java/lang/StringUTF16" "LO_BYTE_SHIFT" "I") ∈ lw_tbl := lw_at lw_m3 123 rfl
theorem q685 : (Jvm.Cond.methodLink "java/lang/StringUTF16" (232 : Nat) ({ cls := "java/lang/StringUTF16", name := "indexOfSupplementary", desc := "([BIII)I" } : Jvm.MethodName)) ∈ lw_all := lw_g (lw_at lw_m3 124 rfl) rfl
theorem q686 : (Jvm.Cond.static ({ cls := "java/lang/StringUTF16", name := "indexOfSupplementary", desc := "([BIII)I" } : Jvm.MethodName)) ∈ lw_all := lw_g (lw_at lw_m3 125 rfl) rfl
theorem q687 : (Jvm.Cond.code ({ cls := "java/lang/StringUTF16", name := "indexOfSupplementary", desc := "([BIII)I" } : Jvm.MethodName) prog_45_method_49_code (7 : Nat) (Option.some Jvm.ClassFile.FieldType.int)) ∈ lw_all := lw_g (lw_at lw_m3 126 rfl) rfl
theorem q688 : (Jvm.Cond.methodLink "java/lang/StringUTF16" (164 : Nat) ({ cls := "java/lang/Character", name := "isValidCodePoint", desc := "(I)Z" } : Jvm.MethodName)) ∈ lw_all := lw_g (lw_at lw_m3 127 rfl) rfl
theorem q691 : (Jvm.Cond.methodLink "java/lang/StringUTF16" (157 : Nat) ({ cls := "java/lang/Character", name := "highSurrogate", desc := "(I)C" } : Jvm.MethodName)) ∈ lw_all := lw_g (lw_at lw_m3 130 rfl) rfl
theorem q695 : (Jvm.Cond.methodLink "java/lang/StringUTF16" (161 : Nat) ({ cls := "java/lang/Character", name := "lowSurrogate", desc := "(I)C" } : Jvm.MethodName)) ∈ lw_all := lw_g (lw_at lw_m3 134 rfl) rfl

/-! jdk/internal/util/Preconditions -/
set_option maxRecDepth 100000
def RJ11 : String := "jdk/internal/util/Preconditions"
abbrev cJ11_checkFromToIndex : ByteArray := prog_48_method_12_code
def yJ11_checkFromToIndex : MethodName := ⟨RJ11, "checkFromToIndex", "(IIILjava/util/function/BiFunction;)I"⟩
def dkwJ11_checkFromToIndex_0 : List UInt8 := [26, 155, 0, 13, 26, 27, 163, 0, 8, 27, 28, 164, 0, 11, 45, 26, 27, 28, 184, 0, 99, 191, 26, 172]
abbrev dktJ11_checkFromToIndex_0 : List UInt8 := dkwJ11_checkFromToIndex_0 ++ []
theorem dksJ11_checkFromToIndex_0 : cJ11_checkFromToIndex.data.toList.drop 0 = dktJ11_checkFromToIndex_0 := by decide +kernel
theorem dJ11_checkFromToIndex_0 : decode cJ11_checkFromToIndex 0 = .ok (.iload_n 0, 1) := dk_26 (dk_at dksJ11_checkFromToIndex_0 0 rfl rfl)
theorem dJ11_checkFromToIndex_1 : decode cJ11_checkFromToIndex 1 = .ok (.ifCond .lt 13, 3) := dk_155 0 13 (dk_at dksJ11_checkFromToIndex_0 1 rfl rfl)
theorem dJ11_checkFromToIndex_4 : decode cJ11_checkFromToIndex 4 = .ok (.iload_n 0, 1) := dk_26 (dk_at dksJ11_checkFromToIndex_0 4 rfl rfl)
theorem dJ11_checkFromToIndex_5 : decode cJ11_checkFromToIndex 5 = .ok (.iload_n 1, 1) := dk_27 (dk_at dksJ11_checkFromToIndex_0 5 rfl rfl)
theorem dJ11_checkFromToIndex_6 : decode cJ11_checkFromToIndex 6 = .ok (.if_icmp .gt 8, 3) := dk_163 0 8 (dk_at dksJ11_checkFromToIndex_0 6 rfl rfl)
theorem dJ11_checkFromToIndex_9 : decode cJ11_checkFromToIndex 9 = .ok (.iload_n 1, 1) := dk_27 (dk_at dksJ11_checkFromToIndex_0 9 rfl rfl)
theorem dJ11_checkFromToIndex_10 : decode cJ11_checkFromToIndex 10 = .ok (.iload_n 2, 1) := dk_28 (dk_at dksJ11_checkFromToIndex_0 10 rfl rfl)
theorem dJ11_checkFromToIndex_11 : decode cJ11_checkFromToIndex 11 = .ok (.if_icmp .le 11, 3) := dk_164 0 11 (dk_at dksJ11_checkFromToIndex_0 11 rfl rfl)
theorem dJ11_checkFromToIndex_14 : decode cJ11_checkFromToIndex 14 = .ok (.aload_n 3, 1) := dk_45 (dk_at dksJ11_checkFromToIndex_0 14 rfl rfl)
theorem dJ11_checkFromToIndex_15 : decode cJ11_checkFromToIndex 15 = .ok (.iload_n 0, 1) := dk_26 (dk_at dksJ11_checkFromToIndex_0 15 rfl rfl)
theorem dJ11_checkFromToIndex_16 : decode cJ11_checkFromToIndex 16 = .ok (.iload_n 1, 1) := dk_27 (dk_at dksJ11_checkFromToIndex_0 16 rfl rfl)
theorem dJ11_checkFromToIndex_17 : decode cJ11_checkFromToIndex 17 = .ok (.iload_n 2, 1) := dk_28 (dk_at dksJ11_checkFromToIndex_0 17 rfl rfl)
theorem dJ11_checkFromToIndex_18 : decode cJ11_checkFromToIndex 18 = .ok (.invokestatic 99, 3) := dk_184 0 99 (dk_at dksJ11_checkFromToIndex_0 18 rfl rfl)
theorem dJ11_checkFromToIndex_21 : decode cJ11_checkFromToIndex 21 = .ok (.athrow, 1) := dk_191 (dk_at dksJ11_checkFromToIndex_0 21 rfl rfl)
theorem dJ11_checkFromToIndex_22 : decode cJ11_checkFromToIndex 22 = .ok (.iload_n 0, 1) := dk_26 (dk_at dksJ11_checkFromToIndex_0 22 rfl rfl)
theorem dJ11_checkFromToIndex_23 : decode cJ11_checkFromToIndex 23 = .ok (.ireturn, 1) := dk_172 (dk_at dksJ11_checkFromToIndex_0 23 rfl rfl)
theorem q101 : (Jvm.Cond.initialized "jdk/internal/util/Preconditions") ∈ lw_all := lw_g (lw_at lw_m1 20 rfl) rfl
theorem q669 : (Jvm.Cond.laysStatic "jdk/internal/util/Preconditions" "SIOOBE_FORMATTER" "Ljava/util/function/BiFunction;") ∈ lw_tbl := lw_at lw_m3 108 rfl
theorem q671 : (Jvm.Cond.static ({ cls := "jdk/internal/util/Preconditions", name := "checkFromToIndex", desc := "(IIILjava/util/function/BiFunction;)I" } : Jvm.MethodName)) ∈ lw_all := lw_g (lw_at lw_m3 110 rfl) rfl
theorem q672 : (Jvm.Cond.code ({ cls := "jdk/internal/util/Preconditions", name := "checkFromToIndex", desc := "(IIILjava/util/function/BiFunction;)I" } : Jvm.MethodName) prog_48_method_12_code (4 : Nat) (Option.some Jvm.ClassFile.FieldType.int)) ∈ lw_all := lw_g (lw_at lw_m3 111 rfl) rfl

/-! java/lang/Character -/
set_option maxRecDepth 100000
def RJ12 : String := "java/lang/Character"
abbrev cJ12_isValidCodePoint : ByteArray := prog_34_method_11_code
def yJ12_isValidCodePoint : MethodName := ⟨RJ12, "isValidCodePoint", "(I)Z"⟩
def dkwJ12_isValidCodePoint_0 : List UInt8 := [26, 16, 16, 124, 60, 27, 16, 17, 162, 0, 7, 4, 167, 0, 4, 3, 172]
abbrev dktJ12_isValidCodePoint_0 : List UInt8 := dkwJ12_isValidCodePoint_0 ++ []
theorem dksJ12_isValidCodePoint_0 : cJ12_isValidCodePoint.data.toList.drop 0 = dktJ12_isValidCodePoint_0 := by decide +kernel
theorem dJ12_isValidCodePoint_0 : decode cJ12_isValidCodePoint 0 = .ok (.iload_n 0, 1) := dk_26 (dk_at dksJ12_isValidCodePoint_0 0 rfl rfl)
theorem dJ12_isValidCodePoint_1 : decode cJ12_isValidCodePoint 1 = .ok (.bipush 16, 2) := dk_16 16 (dk_at dksJ12_isValidCodePoint_0 1 rfl rfl)
theorem dJ12_isValidCodePoint_3 : decode cJ12_isValidCodePoint 3 = .ok (.iushr, 1) := dk_124 (dk_at dksJ12_isValidCodePoint_0 3 rfl rfl)
theorem dJ12_isValidCodePoint_4 : decode cJ12_isValidCodePoint 4 = .ok (.istore_n 1, 1) := dk_60 (dk_at dksJ12_isValidCodePoint_0 4 rfl rfl)
theorem dJ12_isValidCodePoint_5 : decode cJ12_isValidCodePoint 5 = .ok (.iload_n 1, 1) := dk_27 (dk_at dksJ12_isValidCodePoint_0 5 rfl rfl)
theorem dJ12_isValidCodePoint_6 : decode cJ12_isValidCodePoint 6 = .ok (.bipush 17, 2) := dk_16 17 (dk_at dksJ12_isValidCodePoint_0 6 rfl rfl)
theorem dJ12_isValidCodePoint_8 : decode cJ12_isValidCodePoint 8 = .ok (.if_icmp .ge 7, 3) := dk_162 0 7 (dk_at dksJ12_isValidCodePoint_0 8 rfl rfl)
theorem dJ12_isValidCodePoint_11 : decode cJ12_isValidCodePoint 11 = .ok (.iconst 1, 1) := dk_4 (dk_at dksJ12_isValidCodePoint_0 11 rfl rfl)
theorem dJ12_isValidCodePoint_12 : decode cJ12_isValidCodePoint 12 = .ok (.goto 4, 3) := dk_167 0 4 (dk_at dksJ12_isValidCodePoint_0 12 rfl rfl)
theorem dJ12_isValidCodePoint_15 : decode cJ12_isValidCodePoint 15 = .ok (.iconst 0, 1) := dk_3 (dk_at dksJ12_isValidCodePoint_0 15 rfl rfl)
theorem dJ12_isValidCodePoint_16 : decode cJ12_isValidCodePoint 16 = .ok (.ireturn, 1) := dk_172 (dk_at dksJ12_isValidCodePoint_0 16 rfl rfl)
abbrev cJ12_highSurrogate : ByteArray := prog_34_method_28_code
def yJ12_highSurrogate : MethodName := ⟨RJ12, "highSurrogate", "(I)C"⟩
def dkwJ12_highSurrogate_0 : List UInt8 := [26, 16, 10, 124, 18, 110, 96, 146, 172]
abbrev dktJ12_highSurrogate_0 : List UInt8 := dkwJ12_highSurrogate_0 ++ []
theorem dksJ12_highSurrogate_0 : cJ12_highSurrogate.data.toList.drop 0 = dktJ12_highSurrogate_0 := by decide +kernel
theorem dJ12_highSurrogate_0 : decode cJ12_highSurrogate 0 = .ok (.iload_n 0, 1) := dk_26 (dk_at dksJ12_highSurrogate_0 0 rfl rfl)
theorem dJ12_highSurrogate_1 : decode cJ12_highSurrogate 1 = .ok (.bipush 10, 2) := dk_16 10 (dk_at dksJ12_highSurrogate_0 1 rfl rfl)
theorem dJ12_highSurrogate_3 : decode cJ12_highSurrogate 3 = .ok (.iushr, 1) := dk_124 (dk_at dksJ12_highSurrogate_0 3 rfl rfl)
theorem dJ12_highSurrogate_4 : decode cJ12_highSurrogate 4 = .ok (.ldc 110, 2) := dk_18 110 (dk_at dksJ12_highSurrogate_0 4 rfl rfl)
theorem dJ12_highSurrogate_6 : decode cJ12_highSurrogate 6 = .ok (.iadd, 1) := dk_96 (dk_at dksJ12_highSurrogate_0 6 rfl rfl)
theorem dJ12_highSurrogate_7 : decode cJ12_highSurrogate 7 = .ok (.i2c, 1) := dk_146 (dk_at dksJ12_highSurrogate_0 7 rfl rfl)
theorem dJ12_highSurrogate_8 : decode cJ12_highSurrogate 8 = .ok (.ireturn, 1) := dk_172 (dk_at dksJ12_highSurrogate_0 8 rfl rfl)
abbrev cJ12_lowSurrogate : ByteArray := prog_34_method_29_code
def yJ12_lowSurrogate : MethodName := ⟨RJ12, "lowSurrogate", "(I)C"⟩
def dkwJ12_lowSurrogate_0 : List UInt8 := [26, 17, 3, 255, 126, 18, 76, 96, 146, 172]
abbrev dktJ12_lowSurrogate_0 : List UInt8 := dkwJ12_lowSurrogate_0 ++ []
theorem dksJ12_lowSurrogate_0 : cJ12_lowSurrogate.data.toList.drop 0 = dktJ12_lowSurrogate_0 := by decide +kernel
theorem dJ12_lowSurrogate_0 : decode cJ12_lowSurrogate 0 = .ok (.iload_n 0, 1) := dk_26 (dk_at dksJ12_lowSurrogate_0 0 rfl rfl)
theorem dJ12_lowSurrogate_1 : decode cJ12_lowSurrogate 1 = .ok (.sipush 1023, 3) := dk_17 3 255 (dk_at dksJ12_lowSurrogate_0 1 rfl rfl)
theorem dJ12_lowSurrogate_4 : decode cJ12_lowSurrogate 4 = .ok (.iand, 1) := dk_126 (dk_at dksJ12_lowSurrogate_0 4 rfl rfl)
theorem dJ12_lowSurrogate_5 : decode cJ12_lowSurrogate 5 = .ok (.ldc 76, 2) := dk_18 76 (dk_at dksJ12_lowSurrogate_0 5 rfl rfl)
theorem dJ12_lowSurrogate_7 : decode cJ12_lowSurrogate 7 = .ok (.iadd, 1) := dk_96 (dk_at dksJ12_lowSurrogate_0 7 rfl rfl)
theorem dJ12_lowSurrogate_8 : decode cJ12_lowSurrogate 8 = .ok (.i2c, 1) := dk_146 (dk_at dksJ12_lowSurrogate_0 8 rfl rfl)
theorem dJ12_lowSurrogate_9 : decode cJ12_lowSurrogate 9 = .ok (.ireturn, 1) := dk_172 (dk_at dksJ12_lowSurrogate_0 9 rfl rfl)
theorem q102 : (Jvm.Cond.initialized "java/lang/Character") ∈ lw_all := lw_g (lw_at lw_m1 21 rfl) rfl
theorem q689 : (Jvm.Cond.static ({ cls := "java/lang/Character", name := "isValidCodePoint", desc := "(I)Z" } : Jvm.MethodName)) ∈ lw_all := lw_g (lw_at lw_m3 128 rfl) rfl
theorem q690 : (Jvm.Cond.code ({ cls := "java/lang/Character", name := "isValidCodePoint", desc := "(I)Z" } : Jvm.MethodName) prog_34_method_11_code (2 : Nat) (Option.some Jvm.ClassFile.FieldType.boolean)) ∈ lw_all := lw_g (lw_at lw_m3 129 rfl) rfl
theorem q692 : (Jvm.Cond.static ({ cls := "java/lang/Character", name := "highSurrogate", desc := "(I)C" } : Jvm.MethodName)) ∈ lw_all := lw_g (lw_at lw_m3 131 rfl) rfl
theorem q693 : (Jvm.Cond.code ({ cls := "java/lang/Character", name := "highSurrogate", desc := "(I)C" } : Jvm.MethodName) prog_34_method_28_code (1 : Nat) (Option.some Jvm.ClassFile.FieldType.char)) ∈ lw_all := lw_g (lw_at lw_m3 132 rfl) rfl
theorem q694 : (Jvm.Cond.constant "java/lang/Character" (110 : Nat) (55232 : Int32)) ∈ lw_all := lw_g (lw_at lw_m3 133 rfl) rfl
theorem q696 : (Jvm.Cond.static ({ cls := "java/lang/Character", name := "lowSurrogate", desc := "(I)C" } : Jvm.MethodName)) ∈ lw_all := lw_g (lw_at lw_m3 135 rfl) rfl
theorem q697 : (Jvm.Cond.code ({ cls := "java/lang/Character", name := "lowSurrogate", desc := "(I)C" } : Jvm.MethodName) prog_34_method_29_code (1 : Nat) (Option.some Jvm.ClassFile.FieldType.char)) ∈ lw_all := lw_g (lw_at lw_m3 136 rfl) rfl
theorem q698 : (Jvm.Cond.constant "java/lang/Character" (76 : Nat) (56320 : Int32)) ∈ lw_all := lw_g (lw_at lw_m3 137 rfl) rfl

/-! java/lang/Integer -/
set_option maxRecDepth 100000
def RJ13 : String := "java/lang/Integer"
abbrev cJ13_bitCount : ByteArray := prog_38_method_49_code
def yJ13_bitCount : MethodName := ⟨RJ13, "bitCount", "(I)I"⟩
def dkwJ13_bitCount_2 : List UInt8 := [26, 16, 63, 126, 172]
abbrev dktJ13_bitCount_2 : List UInt8 := dkwJ13_bitCount_2 ++ []
def dkwJ13_bitCount_1 : List UInt8 := [26, 26, 7, 124, 96, 19, 1, 11, 126, 59, 26, 26, 16, 8, 124, 96, 59, 26, 26, 16, 16, 124, 96, 59]
abbrev dktJ13_bitCount_1 : List UInt8 := dkwJ13_bitCount_1 ++ dktJ13_bitCount_2
def dkwJ13_bitCount_0 : List UInt8 := [26, 26, 4, 124, 19, 1, 9, 126, 100, 59, 26, 19, 1, 10, 126, 26, 5, 124, 19, 1, 10, 126, 96, 59]
abbrev dktJ13_bitCount_0 : List UInt8 := dkwJ13_bitCount_0 ++ dktJ13_bitCount_1
theorem dksJ13_bitCount_0 : cJ13_bitCount.data.toList.drop 0 = dktJ13_bitCount_0 := by decide +kernel
theorem dksJ13_bitCount_1 : cJ13_bitCount.data.toList.drop 24 = dktJ13_bitCount_1 := dk_seg dksJ13_bitCount_0 24 rfl rfl
theorem dksJ13_bitCount_2 : cJ13_bitCount.data.toList.drop 48 = dktJ13_bitCount_2 := dk_seg dksJ13_bitCount_1 24 rfl rfl
theorem dJ13_bitCount_0 : decode cJ13_bitCount 0 = .ok (.iload_n 0, 1) := dk_26 (dk_at dksJ13_bitCount_0 0 rfl rfl)
theorem dJ13_bitCount_1 : decode cJ13_bitCount 1 = .ok (.iload_n 0, 1) := dk_26 (dk_at dksJ13_bitCount_0 1 rfl rfl)
theorem dJ13_bitCount_2 : decode cJ13_bitCount 2 = .ok (.iconst 1, 1) := dk_4 (dk_at dksJ13_bitCount_0 2 rfl rfl)
theorem dJ13_bitCount_3 : decode cJ13_bitCount 3 = .ok (.iushr, 1) := dk_124 (dk_at dksJ13_bitCount_0 3 rfl rfl)
theorem dJ13_bitCount_4 : decode cJ13_bitCount 4 = .ok (.ldc_w 265, 3) := dk_19 1 9 (dk_at dksJ13_bitCount_0 4 rfl rfl)
theorem dJ13_bitCount_7 : decode cJ13_bitCount 7 = .ok (.iand, 1) := dk_126 (dk_at dksJ13_bitCount_0 7 rfl rfl)
theorem dJ13_bitCount_8 : decode cJ13_bitCount 8 = .ok (.isub, 1) := dk_100 (dk_at dksJ13_bitCount_0 8 rfl rfl)
theorem dJ13_bitCount_9 : decode cJ13_bitCount 9 = .ok (.istore_n 0, 1) := dk_59 (dk_at dksJ13_bitCount_0 9 rfl rfl)
theorem dJ13_bitCount_10 : decode cJ13_bitCount 10 = .ok (.iload_n 0, 1) := dk_26 (dk_at dksJ13_bitCount_0 10 rfl rfl)
theorem dJ13_bitCount_11 : decode cJ13_bitCount 11 = .ok (.ldc_w 266, 3) := dk_19 1 10 (dk_at dksJ13_bitCount_0 11 rfl rfl)
theorem dJ13_bitCount_14 : decode cJ13_bitCount 14 = .ok (.iand, 1) := dk_126 (dk_at dksJ13_bitCount_0 14 rfl rfl)
theorem dJ13_bitCount_15 : decode cJ13_bitCount 15 = .ok (.iload_n 0, 1) := dk_26 (dk_at dksJ13_bitCount_0 15 rfl rfl)
theorem dJ13_bitCount_16 : decode cJ13_bitCount 16 = .ok (.iconst 2, 1) := dk_5 (dk_at dksJ13_bitCount_0 16 rfl rfl)
theorem dJ13_bitCount_17 : decode cJ13_bitCount 17 = .ok (.iushr, 1) := dk_124 (dk_at dksJ13_bitCount_0 17 rfl rfl)
theorem dJ13_bitCount_18 : decode cJ13_bitCount 18 = .ok (.ldc_w 266, 3) := dk_19 1 10 (dk_at dksJ13_bitCount_0 18 rfl rfl)
theorem dJ13_bitCount_21 : decode cJ13_bitCount 21 = .ok (.iand, 1) := dk_126 (dk_at dksJ13_bitCount_0 21 rfl rfl)
theorem dJ13_bitCount_22 : decode cJ13_bitCount 22 = .ok (.iadd, 1) := dk_96 (dk_at dksJ13_bitCount_0 22 rfl rfl)
theorem dJ13_bitCount_23 : decode cJ13_bitCount 23 = .ok (.istore_n 0, 1) := dk_59 (dk_at dksJ13_bitCount_0 23 rfl rfl)
theorem dJ13_bitCount_24 : decode cJ13_bitCount 24 = .ok (.iload_n 0, 1) := dk_26 (dk_at dksJ13_bitCount_1 0 rfl rfl)
theorem dJ13_bitCount_25 : decode cJ13_bitCount 25 = .ok (.iload_n 0, 1) := dk_26 (dk_at dksJ13_bitCount_1 1 rfl rfl)
theorem dJ13_bitCount_26 : decode cJ13_bitCount 26 = .ok (.iconst 4, 1) := dk_7 (dk_at dksJ13_bitCount_1 2 rfl rfl)
theorem dJ13_bitCount_27 : decode cJ13_bitCount 27 = .ok (.iushr, 1) := dk_124 (dk_at dksJ13_bitCount_1 3 rfl rfl)
theorem dJ13_bitCount_28 : decode cJ13_bitCount 28 = .ok (.iadd, 1) := dk_96 (dk_at dksJ13_bitCount_1 4 rfl rfl)
theorem dJ13_bitCount_29 : decode cJ13_bitCount 29 = .ok (.ldc_w 267, 3) := dk_19 1 11 (dk_at dksJ13_bitCount_1 5 rfl rfl)
theorem dJ13_bitCount_32 : decode cJ13_bitCount 32 = .ok (.iand, 1) := dk_126 (dk_at dksJ13_bitCount_1 8 rfl rfl)
theorem dJ13_bitCount_33 : decode cJ13_bitCount 33 = .ok (.istore_n 0, 1) := dk_59 (dk_at dksJ13_bitCount_1 9 rfl rfl)
theorem dJ13_bitCount_34 : decode cJ13_bitCount 34 = .ok (.iload_n 0, 1) := dk_26 (dk_at dksJ13_bitCount_1 10 rfl rfl)
theorem dJ13_bitCount_35 : decode cJ13_bitCount 35 = .ok (.iload_n 0, 1) := dk_26 (dk_at dksJ13_bitCount_1 11 rfl rfl)
theorem dJ13_bitCount_36 : decode cJ13_bitCount 36 = .ok (.bipush 8, 2) := dk_16 8 (dk_at dksJ13_bitCount_1 12 rfl rfl)
theorem dJ13_bitCount_38 : decode cJ13_bitCount 38 = .ok (.iushr, 1) := dk_124 (dk_at dksJ13_bitCount_1 14 rfl rfl)
theorem dJ13_bitCount_39 : decode cJ13_bitCount 39 = .ok (.iadd, 1) := dk_96 (dk_at dksJ13_bitCount_1 15 rfl rfl)
theorem dJ13_bitCount_40 : decode cJ13_bitCount 40 = .ok (.istore_n 0, 1) := dk_59 (dk_at dksJ13_bitCount_1 16 rfl rfl)
theorem dJ13_bitCount_41 : decode cJ13_bitCount 41 = .ok (.iload_n 0, 1) := dk_26 (dk_at dksJ13_bitCount_1 17 rfl rfl)
theorem dJ13_bitCount_42 : decode cJ13_bitCount 42 = .ok (.iload_n 0, 1) := dk_26 (dk_at dksJ13_bitCount_1 18 rfl rfl)
theorem dJ13_bitCount_43 : decode cJ13_bitCount 43 = .ok (.bipush 16, 2) := dk_16 16 (dk_at dksJ13_bitCount_1 19 rfl rfl)
theorem dJ13_bitCount_45 : decode cJ13_bitCount 45 = .ok (.iushr, 1) := dk_124 (dk_at dksJ13_bitCount_1 21 rfl rfl)
theorem dJ13_bitCount_46 : decode cJ13_bitCount 46 = .ok (.iadd, 1) := dk_96 (dk_at dksJ13_bitCount_1 22 rfl rfl)
theorem dJ13_bitCount_47 : decode cJ13_bitCount 47 = .ok (.istore_n 0, 1) := dk_59 (dk_at dksJ13_bitCount_1 23 rfl rfl)
theorem dJ13_bitCount_48 : decode cJ13_bitCount 48 = .ok (.iload_n 0, 1) := dk_26 (dk_at dksJ13_bitCount_2 0 rfl rfl)
theorem dJ13_bitCount_49 : decode cJ13_bitCount 49 = .ok (.bipush 63, 2) := dk_16 63 (dk_at dksJ13_bitCount_2 1 rfl rfl)
theorem dJ13_bitCount_51 : decode cJ13_bitCount 51 = .ok (.iand, 1) := dk_126 (dk_at dksJ13_bitCount_2 3 rfl rfl)
theorem dJ13_bitCount_52 : decode cJ13_bitCount 52 = .ok (.ireturn, 1) := dk_172 (dk_at dksJ13_bitCount_2 4 rfl rfl)
abbrev cJ13_signum : ByteArray := prog_38_method_56_code
def yJ13_signum : MethodName := ⟨RJ13, "signum", "(I)I"⟩
def dkwJ13_signum_0 : List UInt8 := [26, 16, 31, 122, 26, 116, 16, 31, 124, 128, 172]
abbrev dktJ13_signum_0 : List UInt8 := dkwJ13_signum_0 ++ []
theorem dksJ13_signum_0 : cJ13_signum.data.toList.drop 0 = dktJ13_signum_0 := by decide +kernel
theorem dJ13_signum_0 : decode cJ13_signum 0 = .ok (.iload_n 0, 1) := dk_26 (dk_at dksJ13_signum_0 0 rfl rfl)
theorem dJ13_signum_1 : decode cJ13_signum 1 = .ok (.bipush 31, 2) := dk_16 31 (dk_at dksJ13_signum_0 1 rfl rfl)
theorem dJ13_signum_3 : decode cJ13_signum 3 = .ok (.ishr, 1) := dk_122 (dk_at dksJ13_signum_0 3 rfl rfl)
theorem dJ13_signum_4 : decode cJ13_signum 4 = .ok (.iload_n 0, 1) := dk_26 (dk_at dksJ13_signum_0 4 rfl rfl)
theorem dJ13_signum_5 : decode cJ13_signum 5 = .ok (.ineg, 1) := dk_116 (dk_at dksJ13_signum_0 5 rfl rfl)
theorem dJ13_signum_6 : decode cJ13_signum 6 = .ok (.bipush 31, 2) := dk_16 31 (dk_at dksJ13_signum_0 6 rfl rfl)
theorem dJ13_signum_8 : decode cJ13_signum 8 = .ok (.iushr, 1) := dk_124 (dk_at dksJ13_signum_0 8 rfl rfl)
theorem dJ13_signum_9 : decode cJ13_signum 9 = .ok (.ior, 1) := dk_128 (dk_at dksJ13_signum_0 9 rfl rfl)
theorem dJ13_signum_10 : decode cJ13_signum 10 = .ok (.ireturn, 1) := dk_172 (dk_at dksJ13_signum_0 10 rfl rfl)
theorem q109 : (Jvm.Cond.initialized "java/lang/Integer") ∈ lw_all := lw_g (lw_at lw_m1 28 rfl) rfl
theorem q940 : (Jvm.Cond.static ({ cls := "java/lang/Integer", name := "bitCount", desc := "(I)I" } : Jvm.MethodName)) ∈ lw_all := lw_g (lw_at lw_m4 139 rfl) rfl
theorem q941 : (Jvm.Cond.code ({ cls := "java/lang/Integer", name := "bitCount", desc := "(I)I" } : Jvm.MethodName) prog_38_method_49_code (1 : Nat) (Option.some Jvm.ClassFile.FieldType.int)) ∈ lw_all := lw_g (lw_at lw_m4 140 rfl) rfl
theorem q942 : (Jvm.Cond.constant "java/lang/Integer" (265 : Nat) (1431655765 : Int32)) ∈ lw_all := lw_g (lw_at lw_m4 141 rfl) rfl
theorem q943 : (Jvm.Cond.constant "java/lang/Integer" (266 : Nat) (858993459 : Int32)) ∈ lw_all := lw_g (lw_at lw_m4 142 rfl) rfl
theorem q944 : (Jvm.Cond.constant "java/lang/Integer" (267 : Nat) (252645135 : Int32)) ∈ lw_all := lw_g (lw_at lw_m4 143 rfl) rfl
theorem q966 : (Jvm.Cond.static ({ cls := "java/lang/Integer", name := "signum", desc := "(I)I" } : Jvm.MethodName)) ∈ lw_all := lw_g (lw_at lw_m4 165 rfl) rfl
theorem q967 : (Jvm.Cond.code ({ cls := "java/lang/Integer", name := "signum", desc := "(I)I" } : Jvm.MethodName) prog_38_method_56_code (1 : Nat) (Option.some Jvm.ClassFile.FieldType.int)) ∈ lw_all := lw_g (lw_at lw_m4 166 rfl) rfl

/-! java/lang/NegativeArraySizeException -/
set_option maxRecDepth 100000
def RJ14 : String := "java/lang/NegativeArraySizeException"
def TJ14 : u_T := fun k => match k with
  | 0 => ("java/lang/Throwable", "backtrace", "Ljava/lang/Object;", false)
  | 1 => ("java/lang/Throwable", "detailMessage", "Ljava/lang/String;", false)
  | 2 => ("java/lang/Throwable", "cause", "Ljava/lang/Throwable;", false)
  | 3 => ("java/lang/Throwable", "stackTrace", "[Ljava/lang/StackTraceElement;", false)
  | 4 => ("java/lang/Throwable", "depth", "I", false)
  | _ => ("java/lang/Throwable", "suppressedExceptions", "Ljava/util/List;", false)
def tyJ14 : Nat → FieldType := fun k => match k with
  | 0 => .object "java/lang/Object"
  | 1 => .object "java/lang/String"
  | 2 => .object "java/lang/Throwable"
  | 3 => .array (.object "java/lang/StackTraceElement")
  | 4 => .int
  | _ => .object "java/util/List"
abbrev wsJ140 : List Cond := u_ws RJ14 TJ14 6
theorem nmJ14 : ∀ a, a < 6 → ∀ b, b < 6 → a ≠ b → (TJ14 a).2.1 ≠ (TJ14 b).2.1 := by decide +kernel
theorem tyJ14_ok : ∀ k, k < 6 → parseFieldDescriptor (TJ14 k).2.2.1 = some (tyJ14 k) := by decide +kernel
abbrev cJ14_init : ByteArray := prog_40_method_2_code
def yJ14_init : MethodName := ⟨RJ14, "<init>", "(Ljava/lang/String;)V"⟩
def dkwJ14_init_0 : List UInt8 := [42, 43, 183, 0, 7, 177]
abbrev dktJ14_init_0 : List UInt8 := dkwJ14_init_0 ++ []
theorem dksJ14_init_0 : cJ14_init.data.toList.drop 0 = dktJ14_init_0 := by decide +kernel
theorem dJ14_init_0 : decode cJ14_init 0 = .ok (.aload_n 0, 1) := dk_42 (dk_at dksJ14_init_0 0 rfl rfl)
theorem dJ14_init_1 : decode cJ14_init 1 = .ok (.aload_n 1, 1) := dk_43 (dk_at dksJ14_init_0 1 rfl rfl)
theorem dJ14_init_2 : decode cJ14_init 2 = .ok (.invokespecial 7, 3) := dk_183 0 7 (dk_at dksJ14_init_0 2 rfl rfl)
theorem dJ14_init_5 : decode cJ14_init 5 = .ok (.return_, 1) := dk_177 (dk_at dksJ14_init_0 5 rfl rfl)
theorem q119 : (Jvm.Cond.initialized "java/lang/NegativeArraySizeException") ∈ lw_all := lw_g (lw_at lw_m1 38 rfl) rfl
theorem q313 : (Jvm.Cond.selects "java/lang/NegativeArraySizeException" ({ cls := "java/lang/Throwable", name := "fillInStackTrace", desc := "()Ljava/lang/Throwable;" } : Jvm.MethodName) ({ cls := "java/lang/Throwable", name := "fillInStackTrace", desc := "()Ljava/lang/Throwable;" } : Jvm.MethodName)) ∈ lw_all := lw_g (lw_at lw_m1 232 rfl) rfl
theorem q1242 : (Jvm.Cond.instantiable "java/lang/NegativeArraySizeException" (6 : Nat)) ∈ lw_all := lw_g (lw_at lw_m5 201 rfl) rfl
theorem q1243 : (Jvm.Cond.instanceMethod ({ cls := "java/lang/NegativeArraySizeException", name := "<init>", desc := "(Ljava/lang/String;)V" } : Jvm.MethodName)) ∈ lw_all := lw_g (lw_at lw_m5 202 rfl) rfl
theorem q1244 : (Jvm.Cond.code ({ cls := "java/lang/NegativeArraySizeException", name := "<init>", desc := "(Ljava/lang/String;)V" } : Jvm.MethodName) prog_40_method_2_code (2 : Nat) (Option.none : Option Jvm.ClassFile.FieldType)) ∈ lw_all := lw_g (lw_at lw_m5 203 rfl) rfl
theorem q1245 : (Jvm.Cond.methodLink "java/lang/NegativeArraySizeException" (7 : Nat) ({ cls := "java/lang/RuntimeException", name := "<init>", desc := "(Ljava/lang/String;)V" } : Jvm.MethodName)) ∈ lw_all := lw_g (lw_at lw_m5 204 rfl) rfl
theorem q1246 : (Jvm.Cond.lays "java/lang/NegativeArraySizeException" "java/lang/Throwable" "backtrace" "Ljava/lang/Object;") ∈ lw_all := lw_g (lw_at lw_m5 205 rfl) rfl
theorem q1247 : (Jvm.Cond.lays "java/lang/NegativeArraySizeException" "java/lang/Throwable" "detailMessage" "Ljava/lang/String;") ∈ lw_all := lw_g (lw_at lw_m5 206 rfl) rfl
theorem q1248 : (Jvm.Cond.lays "java/lang/NegativeArraySizeException" "java/lang/Throwable" "cause" "Ljava/lang/Throwable;") ∈ lw_all := lw_g (lw_at lw_m5 207 rfl) rfl
theorem q1249 : (Jvm.Cond.lays "java/lang/NegativeArraySizeException" "java/lang/Throwable" "stackTrace" "[Ljava/lang/StackTraceElement;") ∈ lw_all := lw_g (lw_at lw_m5 208 rfl) rfl
theorem q1250 : (Jvm.Cond.lays "java/lang/NegativeArraySizeException" "java/lang/Throwable" "depth" "I") ∈ lw_all := lw_g (lw_at lw_m5 209 rfl) rfl
theorem q1251 : (Jvm.Cond.lays "java/lang/NegativeArraySizeException" "java/lang/Throwable" "suppressedExceptions" "Ljava/util/List;") ∈ lw_all := lw_g (lw_at lw_m5 210 rfl) rfl
theorem q1252 : (Jvm.Cond.superclass "java/lang/NegativeArraySizeException" "java/lang/RuntimeException") ∈ lw_all := lw_g (lw_at lw_m5 211 rfl) rfl
theorem q1253 : (Jvm.Cond.castable "java/lang/NegativeArraySizeException" "java/lang/NegativeArraySizeException") ∈ lw_tbl := lw_at lw_m5 212 rfl
theorem q1254 : (Jvm.Cond.selects "java/lang/NegativeArraySizeException" ({ cls := "java/lang/Throwable", name := "fillInStackTrace", desc := "(I)Ljava/lang/Throwable;" } : Jvm.MethodName) ({ cls := "java/lang/Throwable", name := "fillInStackTrace", desc := "(I)Ljava/lang/Throwable;" } : Jvm.MethodName)) ∈ lw_all := lw_g (lw_at lw_m5 213 rfl) rfl
theorem in_J14 : ∀ w ∈ wsJ140, w ∈ lw_all := lw_in wsJ140 [1246, 1247, 1248, 1249, 1250, 1251] (by decide +kernel) (by decide +kernel)

/-! java/lang/Object -/
set_option maxRecDepth 100000
def RJ15 : String := "java/lang/Object"
abbrev cJ15_init : ByteArray := object_method_1_code
def yJ15_init : MethodName := ⟨RJ15, "<init>", "()V"⟩
theorem dJ15_init_0 : decode cJ15_init 0 = .ok (.return_, 1) := by decide +kernel
theorem q133 : (Jvm.Cond.instanceMethod ({ cls := "java/lang/Object", name := "<init>", desc := "()V" } : Jvm.MethodName)) ∈ lw_all := lw_g (lw_at lw_m1 52 rfl) rfl
theorem q134 : (Jvm.Cond.code ({ cls := "java/lang/Object", name := "<init>", desc := "()V" } : Jvm.MethodName) object_method_1_code (1 : Nat) (Option.none : Option Jvm.ClassFile.FieldType)) ∈ lw_all := lw_g (lw_at lw_m1 53 rfl) rfl

/-! PointsForAll$Facts -/
set_option maxRecDepth 100000
def RX1 : String := "PointsForAll$Facts"
def TX1 : u_T := fun k => match k with
  | _ => ("PointsForAll$Facts", "named", "[I", true)
def tyX1 : Nat → FieldType := fun k => match k with
  | _ => .array .int
abbrev wsX10 : List Cond := u_ws RX1 TX1 1
theorem nmX1 : ∀ a, a < 1 → ∀ b, b < 1 → a ≠ b → (TX1 a).2.1 ≠ (TX1 b).2.1 := by decide +kernel
theorem tyX1_ok : ∀ k, k < 1 → parseFieldDescriptor (TX1 k).2.2.1 = some (tyX1 k) := by decide +kernel
abbrev cX1_init : ByteArray := prog_11_method_1_code
def yX1_init : MethodName := ⟨RX1, "<init>", "()V"⟩
def dkwX1_init_0 : List UInt8 := [42, 183, 0, 1, 42, 17, 0, 128, 188, 10, 181, 0, 7, 177]
abbrev dktX1_init_0 : List UInt8 := dkwX1_init_0 ++ []
theorem dksX1_init_0 : cX1_init.data.toList.drop 0 = dktX1_init_0 := by decide +kernel
theorem dX1_init_0 : decode cX1_init 0 = .ok (.aload_n 0, 1) := dk_42 (dk_at dksX1_init_0 0 rfl rfl)
theorem dX1_init_1 : decode cX1_init 1 = .ok (.invokespecial 1, 3) := dk_183 0 1 (dk_at dksX1_init_0 1 rfl rfl)
theorem dX1_init_4 : decode cX1_init 4 = .ok (.aload_n 0, 1) := dk_42 (dk_at dksX1_init_0 4 rfl rfl)
theorem dX1_init_5 : decode cX1_init 5 = .ok (.sipush 128, 3) := dk_17 0 128 (dk_at dksX1_init_0 5 rfl rfl)
theorem dX1_init_8 : decode cX1_init 8 = .ok (.newarray .int, 2) := dk_188_10 (dk_at dksX1_init_0 8 rfl rfl)
theorem dX1_init_10 : decode cX1_init 10 = .ok (.putfield 7, 3) := dk_181 0 7 (dk_at dksX1_init_0 10 rfl rfl)
theorem dX1_init_13 : decode cX1_init 13 = .ok (.return_, 1) := dk_177 (dk_at dksX1_init_0 13 rfl rfl)
abbrev cX1_clear : ByteArray := prog_11_method_2_code
def yX1_clear : MethodName := ⟨RX1, "clear", "()V"⟩
def dkwX1_clear_1 : List UInt8 := [177]
abbrev dktX1_clear_1 : List UInt8 := dkwX1_clear_1 ++ []
def dkwX1_clear_0 : List UInt8 := [3, 60, 27, 42, 180, 0, 7, 190, 162, 0, 16, 42, 180, 0, 7, 27, 3, 79, 132, 1, 1, 167, 255, 237]
abbrev dktX1_clear_0 : List UInt8 := dkwX1_clear_0 ++ dktX1_clear_1
theorem dksX1_clear_0 : cX1_clear.data.toList.drop 0 = dktX1_clear_0 := by decide +kernel
theorem dksX1_clear_1 : cX1_clear.data.toList.drop 24 = dktX1_clear_1 := dk_seg dksX1_clear_0 24 rfl rfl
theorem dX1_clear_0 : decode cX1_clear 0 = .ok (.iconst 0, 1) := dk_3 (dk_at dksX1_clear_0 0 rfl rfl)
theorem dX1_clear_1 : decode cX1_clear 1 = .ok (.istore_n 1, 1) := dk_60 (dk_at dksX1_clear_0 1 rfl rfl)
theorem dX1_clear_2 : decode cX1_clear 2 = .ok (.iload_n 1, 1) := dk_27 (dk_at dksX1_clear_0 2 rfl rfl)
theorem dX1_clear_3 : decode cX1_clear 3 = .ok (.aload_n 0, 1) := dk_42 (dk_at dksX1_clear_0 3 rfl rfl)
theorem dX1_clear_4 : decode cX1_clear 4 = .ok (.getfield 7, 3) := dk_180 0 7 (dk_at dksX1_clear_0 4 rfl rfl)
theorem dX1_clear_7 : decode cX1_clear 7 = .ok (.arraylength, 1) := dk_190 (dk_at dksX1_clear_0 7 rfl rfl)
theorem dX1_clear_8 : decode cX1_clear 8 = .ok (.if_icmp .ge 16, 3) := dk_162 0 16 (dk_at dksX1_clear_0 8 rfl rfl)
theorem dX1_clear_11 : decode cX1_clear 11 = .ok (.aload_n 0, 1) := dk_42 (dk_at dksX1_clear_0 11 rfl rfl)
theorem dX1_clear_12 : decode cX1_clear 12 = .ok (.getfield 7, 3) := dk_180 0 7 (dk_at dksX1_clear_0 12 rfl rfl)
theorem dX1_clear_15 : decode cX1_clear 15 = .ok (.iload_n 1, 1) := dk_27 (dk_at dksX1_clear_0 15 rfl rfl)
theorem dX1_clear_16 : decode cX1_clear 16 = .ok (.iconst 0, 1) := dk_3 (dk_at dksX1_clear_0 16 rfl rfl)
theorem dX1_clear_17 : decode cX1_clear 17 = .ok (.iastore, 1) := dk_79 (dk_at dksX1_clear_0 17 rfl rfl)
theorem dX1_clear_18 : decode cX1_clear 18 = .ok (.iinc 1 1, 3) := dk_132 1 1 (dk_at dksX1_clear_0 18 rfl rfl)
theorem dX1_clear_21 : decode cX1_clear 21 = .ok (.goto (-19), 3) := dk_167 255 237 (dk_at dksX1_clear_0 21 rfl rfl)
theorem dX1_clear_24 : decode cX1_clear 24 = .ok (.return_, 1) := dk_177 (dk_at dksX1_clear_1 0 rfl rfl)
theorem q83 : (Jvm.Cond.initialized "PointsForAll$Facts") ∈ lw_all := lw_g (lw_at lw_m1 2 rfl) rfl
theorem q144 : (Jvm.Cond.instantiable "PointsForAll$Facts" (1 : Nat)) ∈ lw_all := lw_g (lw_at lw_m1 63 rfl) rfl
theorem q146 : (Jvm.Cond.instanceMethod ({ cls := "PointsForAll$Facts", name := "<init>", desc := "()V" } : Jvm.MethodName)) ∈ lw_all := lw_g (lw_at lw_m1 65 rfl) rfl
theorem q147 : (Jvm.Cond.code ({ cls := "PointsForAll$Facts", name := "<init>", desc := "()V" } : Jvm.MethodName) prog_11_method_1_code (1 : Nat) (Option.none : Option Jvm.ClassFile.FieldType)) ∈ lw_all := lw_g (lw_at lw_m1 66 rfl) rfl
theorem q148 : (Jvm.Cond.methodLink "PointsForAll$Facts" (1 : Nat) ({ cls := "java/lang/Object", name := "<init>", desc := "()V" } : Jvm.MethodName)) ∈ lw_all := lw_g (lw_at lw_m1 67 rfl) rfl
theorem q149 : (Jvm.Cond.fieldLink "PointsForAll$Facts" (7 : Nat) "PointsForAll$Facts" "named" "[I") ∈ lw_all := lw_g (lw_at lw_m1 68 rfl) rfl
theorem q152 : (Jvm.Cond.laysFinal "PointsForAll$Facts" "PointsForAll$Facts" "named" "[I") ∈ lw_all := lw_g (lw_at lw_m1 71 rfl) rfl
theorem q153 : (Jvm.Cond.soleField "PointsForAll$Facts" "named") ∈ lw_all := lw_g (lw_at lw_m1 72 rfl) rfl
theorem q154 : (Jvm.Cond.superclass "PointsForAll$Facts" "java/lang/Object") ∈ lw_all := lw_g (lw_at lw_m1 73 rfl) rfl
theorem q783 : (Jvm.Cond.instanceMethod ({ cls := "PointsForAll$Facts", name := "clear", desc := "()V" } : Jvm.MethodName)) ∈ lw_all := lw_g (lw_at lw_m3 222 rfl) rfl
theorem q784 : (Jvm.Cond.selects "PointsForAll$Facts" ({ cls := "PointsForAll$Facts", name := "clear", desc := "()V" } : Jvm.MethodName) ({ cls := "PointsForAll$Facts", name := "clear", desc := "()V" } : Jvm.MethodName)) ∈ lw_all := lw_g (lw_at lw_m3 223 rfl) rfl
theorem q785 : (Jvm.Cond.code ({ cls := "PointsForAll$Facts", name := "clear", desc := "()V" } : Jvm.MethodName) prog_11_method_2_code (2 : Nat) (Option.none : Option Jvm.ClassFile.FieldType)) ∈ lw_all := lw_g (lw_at lw_m3 224 rfl) rfl
theorem in_X1 : ∀ w ∈ wsX10, w ∈ lw_all := lw_in wsX10 [152] (by decide +kernel) (by decide +kernel)

/-! PointsForAll$Thing -/
set_option maxRecDepth 100000
def RX3 : String := "PointsForAll$Thing"
def TX3 : u_T := fun k => match k with
  | 0 => ("PointsForAll$Thing", "made", "I", true)
  | 1 => ("PointsForAll$Thing", "many", "I", false)
  | 2 => ("PointsForAll$Thing", "coin", "I", false)
  | _ => ("PointsForAll$Thing", "points", "I", false)
def tyX3 : Nat → FieldType := fun k => match k with
  | 0 => .int
  | 1 => .int
  | 2 => .int
  | _ => .int
abbrev wsX30 : List Cond := u_ws RX3 TX3 4
theorem nmX3 : ∀ a, a < 4 → ∀ b, b < 4 → a ≠ b → (TX3 a).2.1 ≠ (TX3 b).2.1 := by decide +kernel
theorem tyX3_ok : ∀ k, k < 4 → parseFieldDescriptor (TX3 k).2.2.1 = some (tyX3 k) := by decide +kernel
abbrev cX3_init : ByteArray := prog_28_method_1_code
def yX3_init : MethodName := ⟨RX3, "<init>", "(IIII)V"⟩
def dkwX3_init_1 : List UInt8 := [181, 0, 19, 177]
abbrev dktX3_init_1 : List UInt8 := dkwX3_init_1 ++ []
def dkwX3_init_0 : List UInt8 := [42, 183, 0, 1, 42, 27, 181, 0, 7, 42, 28, 181, 0, 13, 42, 29, 181, 0, 16, 42, 21, 4]
abbrev dktX3_init_0 : List UInt8 := dkwX3_init_0 ++ dktX3_init_1
theorem dksX3_init_0 : cX3_init.data.toList.drop 0 = dktX3_init_0 := by decide +kernel
theorem dksX3_init_1 : cX3_init.data.toList.drop 22 = dktX3_init_1 := dk_seg dksX3_init_0 22 rfl rfl
theorem dX3_init_0 : decode cX3_init 0 = .ok (.aload_n 0, 1) := dk_42 (dk_at dksX3_init_0 0 rfl rfl)
theorem dX3_init_1 : decode cX3_init 1 = .ok (.invokespecial 1, 3) := dk_183 0 1 (dk_at dksX3_init_0 1 rfl rfl)
theorem dX3_init_4 : decode cX3_init 4 = .ok (.aload_n 0, 1) := dk_42 (dk_at dksX3_init_0 4 rfl rfl)
theorem dX3_init_5 : decode cX3_init 5 = .ok (.iload_n 1, 1) := dk_27 (dk_at dksX3_init_0 5 rfl rfl)
theorem dX3_init_6 : decode cX3_init 6 = .ok (.putfield 7, 3) := dk_181 0 7 (dk_at dksX3_init_0 6 rfl rfl)
theorem dX3_init_9 : decode cX3_init 9 = .ok (.aload_n 0, 1) := dk_42 (dk_at dksX3_init_0 9 rfl rfl)
theorem dX3_init_10 : decode cX3_init 10 = .ok (.iload_n 2, 1) := dk_28 (dk_at dksX3_init_0 10 rfl rfl)
theorem dX3_init_11 : decode cX3_init 11 = .ok (.putfield 13, 3) := dk_181 0 13 (dk_at dksX3_init_0 11 rfl rfl)
theorem dX3_init_14 : decode cX3_init 14 = .ok (.aload_n 0, 1) := dk_42 (dk_at dksX3_init_0 14 rfl rfl)
theorem dX3_init_15 : decode cX3_init 15 = .ok (.iload_n 3, 1) := dk_29 (dk_at dksX3_init_0 15 rfl rfl)
theorem dX3_init_16 : decode cX3_init 16 = .ok (.putfield 16, 3) := dk_181 0 16 (dk_at dksX3_init_0 16 rfl rfl)
theorem dX3_init_19 : decode cX3_init 19 = .ok (.aload_n 0, 1) := dk_42 (dk_at dksX3_init_0 19 rfl rfl)
theorem dX3_init_20 : decode cX3_init 20 = .ok (.iload 4, 2) := dk_21 4 (dk_at dksX3_init_0 20 rfl rfl)
theorem dX3_init_22 : decode cX3_init 22 = .ok (.putfield 19, 3) := dk_181 0 19 (dk_at dksX3_init_1 0 rfl rfl)
theorem dX3_init_25 : decode cX3_init 25 = .ok (.return_, 1) := dk_177 (dk_at dksX3_init_1 3 rfl rfl)
theorem q85 : (Jvm.Cond.initialized "PointsForAll$Thing") ∈ lw_all := lw_g (lw_at lw_m1 4 rfl) rfl
theorem q264 : (Jvm.Cond.instantiable "PointsForAll$Thing" (4 : Nat)) ∈ lw_all := lw_g (lw_at lw_m1 183 rfl) rfl
theorem q266 : (Jvm.Cond.instanceMethod ({ cls := "PointsForAll$Thing", name := "<init>", desc := "(IIII)V" } : Jvm.MethodName)) ∈ lw_all := lw_g (lw_at lw_m1 185 rfl) rfl
theorem q267 : (Jvm.Cond.code ({ cls := "PointsForAll$Thing", name := "<init>", desc := "(IIII)V" } : Jvm.MethodName) prog_28_method_1_code (5 : Nat) (Option.none : Option Jvm.ClassFile.FieldType)) ∈ lw_all := lw_g (lw_at lw_m1 186 rfl) rfl
theorem q268 : (Jvm.Cond.methodLink "PointsForAll$Thing" (1 : Nat) ({ cls := "java/lang/Object", name := "<init>", desc := "()V" } : Jvm.MethodName)) ∈ lw_all := lw_g (lw_at lw_m1 187 rfl) rfl
theorem q269 : (Jvm.Cond.fieldLink "PointsForAll$Thing" (19 : Nat) "PointsForAll$Thing" "made" "I") ∈ lw_all := lw_g (lw_at lw_m1 188 rfl) rfl
theorem q271 : (Jvm.Cond.fieldLink "PointsForAll$Thing" (7 : Nat) "PointsForAll$Thing" "many" "I") ∈ lw_all := lw_g (lw_at lw_m1 190 rfl) rfl
theorem q273 : (Jvm.Cond.fieldLink "PointsForAll$Thing" (13 : Nat) "PointsForAll$Thing" "coin" "I") ∈ lw_all := lw_g (lw_at lw_m1 192 rfl) rfl
theorem q275 : (Jvm.Cond.fieldLink "PointsForAll$Thing" (16 : Nat) "PointsForAll$Thing" "points" "I") ∈ lw_all := lw_g (lw_at lw_m1 194 rfl) rfl
theorem q277 : (Jvm.Cond.laysFinal "PointsForAll$Thing" "PointsForAll$Thing" "made" "I") ∈ lw_all := lw_g (lw_at lw_m1 196 rfl) rfl
theorem q278 : (Jvm.Cond.soleField "PointsForAll$Thing" "made") ∈ lw_all := lw_g (lw_at lw_m1 197 rfl) rfl
theorem q279 : (Jvm.Cond.lays "PointsForAll$Thing" "PointsForAll$Thing" "many" "I") ∈ lw_all := lw_g (lw_at lw_m1 198 rfl) rfl
theorem q280 : (Jvm.Cond.soleField "PointsForAll$Thing" "many") ∈ lw_all := lw_g (lw_at lw_m1 199 rfl) rfl
theorem q281 : (Jvm.Cond.lays "PointsForAll$Thing" "PointsForAll$Thing" "coin" "I") ∈ lw_all := lw_g (lw_at lw_m1 200 rfl) rfl
theorem q282 : (Jvm.Cond.soleField "PointsForAll$Thing" "coin") ∈ lw_all := lw_g (lw_at lw_m1 201 rfl) rfl
theorem q283 : (Jvm.Cond.lays "PointsForAll$Thing" "PointsForAll$Thing" "points" "I") ∈ lw_all := lw_g (lw_at lw_m1 202 rfl) rfl
theorem q284 : (Jvm.Cond.soleField "PointsForAll$Thing" "points") ∈ lw_all := lw_g (lw_at lw_m1 203 rfl) rfl
theorem q285 : (Jvm.Cond.superclass "PointsForAll$Thing" "java/lang/Object") ∈ lw_all := lw_g (lw_at lw_m1 204 rfl) rfl
theorem in_X3 : ∀ w ∈ wsX30, w ∈ lw_all := lw_in wsX30 [277, 279, 281, 283] (by decide +kernel) (by decide +kernel)

/-! PointsForAll$Change -/
set_option maxRecDepth 100000
def RX4 : String := "PointsForAll$Change"
def TX4 : u_T := fun k => match k with
  | 0 => ("PointsForAll$Change", "of", "I", true)
  | 1 => ("PointsForAll$Change", "at", "I", true)
  | 2 => ("PointsForAll$Change", "before", "I", true)
  | _ => ("PointsForAll$Change", "behind", "I", true)
def tyX4 : Nat → FieldType := fun k => match k with
  | 0 => .int
  | 1 => .int
  | 2 => .int
  | _ => .int
abbrev wsX40 : List Cond := u_ws RX4 TX4 4
theorem nmX4 : ∀ a, a < 4 → ∀ b, b < 4 → a ≠ b → (TX4 a).2.1 ≠ (TX4 b).2.1 := by decide +kernel
theorem tyX4_ok : ∀ k, k < 4 → parseFieldDescriptor (TX4 k).2.2.1 = some (tyX4 k) := by decide +kernel
abbrev cX4_init : ByteArray := prog_7_method_1_code
def yX4_init : MethodName := ⟨RX4, "<init>", "(IIII)V"⟩
def dkwX4_init_1 : List UInt8 := [181, 0, 19, 177]
abbrev dktX4_init_1 : List UInt8 := dkwX4_init_1 ++ []
def dkwX4_init_0 : List UInt8 := [42, 183, 0, 1, 42, 27, 181, 0, 7, 42, 28, 181, 0, 13, 42, 29, 181, 0, 16, 42, 21, 4]
abbrev dktX4_init_0 : List UInt8 := dkwX4_init_0 ++ dktX4_init_1
theorem dksX4_init_0 : cX4_init.data.toList.drop 0 = dktX4_init_0 := by decide +kernel
theorem dksX4_init_1 : cX4_init.data.toList.drop 22 = dktX4_init_1 := dk_seg dksX4_init_0 22 rfl rfl
theorem dX4_init_0 : decode cX4_init 0 = .ok (.aload_n 0, 1) := dk_42 (dk_at dksX4_init_0 0 rfl rfl)
theorem dX4_init_1 : decode cX4_init 1 = .ok (.invokespecial 1, 3) := dk_183 0 1 (dk_at dksX4_init_0 1 rfl rfl)
theorem dX4_init_4 : decode cX4_init 4 = .ok (.aload_n 0, 1) := dk_42 (dk_at dksX4_init_0 4 rfl rfl)
theorem dX4_init_5 : decode cX4_init 5 = .ok (.iload_n 1, 1) := dk_27 (dk_at dksX4_init_0 5 rfl rfl)
theorem dX4_init_6 : decode cX4_init 6 = .ok (.putfield 7, 3) := dk_181 0 7 (dk_at dksX4_init_0 6 rfl rfl)
theorem dX4_init_9 : decode cX4_init 9 = .ok (.aload_n 0, 1) := dk_42 (dk_at dksX4_init_0 9 rfl rfl)
theorem dX4_init_10 : decode cX4_init 10 = .ok (.iload_n 2, 1) := dk_28 (dk_at dksX4_init_0 10 rfl rfl)
theorem dX4_init_11 : decode cX4_init 11 = .ok (.putfield 13, 3) := dk_181 0 13 (dk_at dksX4_init_0 11 rfl rfl)
theorem dX4_init_14 : decode cX4_init 14 = .ok (.aload_n 0, 1) := dk_42 (dk_at dksX4_init_0 14 rfl rfl)
theorem dX4_init_15 : decode cX4_init 15 = .ok (.iload_n 3, 1) := dk_29 (dk_at dksX4_init_0 15 rfl rfl)
theorem dX4_init_16 : decode cX4_init 16 = .ok (.putfield 16, 3) := dk_181 0 16 (dk_at dksX4_init_0 16 rfl rfl)
theorem dX4_init_19 : decode cX4_init 19 = .ok (.aload_n 0, 1) := dk_42 (dk_at dksX4_init_0 19 rfl rfl)
theorem dX4_init_20 : decode cX4_init 20 = .ok (.iload 4, 2) := dk_21 4 (dk_at dksX4_init_0 20 rfl rfl)
theorem dX4_init_22 : decode cX4_init 22 = .ok (.putfield 19, 3) := dk_181 0 19 (dk_at dksX4_init_1 0 rfl rfl)
theorem dX4_init_25 : decode cX4_init 25 = .ok (.return_, 1) := dk_177 (dk_at dksX4_init_1 3 rfl rfl)
theorem q94 : (Jvm.Cond.initialized "PointsForAll$Change") ∈ lw_all := lw_g (lw_at lw_m1 13 rfl) rfl
theorem q499 : (Jvm.Cond.instantiable "PointsForAll$Change" (4 : Nat)) ∈ lw_all := lw_g (lw_at lw_m2 178 rfl) rfl
theorem q501 : (Jvm.Cond.instanceMethod ({ cls := "PointsForAll$Change", name := "<init>", desc := "(IIII)V" } : Jvm.MethodName)) ∈ lw_all := lw_g (lw_at lw_m2 180 rfl) rfl
theorem q502 : (Jvm.Cond.code ({ cls := "PointsForAll$Change", name := "<init>", desc := "(IIII)V" } : Jvm.MethodName) prog_7_method_1_code (5 : Nat) (Option.none : Option Jvm.ClassFile.FieldType)) ∈ lw_all := lw_g (lw_at lw_m2 181 rfl) rfl
theorem q503 : (Jvm.Cond.methodLink "PointsForAll$Change" (1 : Nat) ({ cls := "java/lang/Object", name := "<init>", desc := "()V" } : Jvm.MethodName)) ∈ lw_all := lw_g (lw_at lw_m2 182 rfl) rfl
theorem q504 : (Jvm.Cond.fieldLink "PointsForAll$Change" (7 : Nat) "PointsForAll$Change" "of" "I") ∈ lw_all := lw_g (lw_at lw_m2 183 rfl) rfl
theorem q506 : (Jvm.Cond.fieldLink "PointsForAll$Change" (13 : Nat) "PointsForAll$Change" "at" "I") ∈ lw_all := lw_g (lw_at lw_m2 185 rfl) rfl
theorem q508 : (Jvm.Cond.fieldLink "PointsForAll$Change" (16 : Nat) "PointsForAll$Change" "before" "I") ∈ lw_all := lw_g (lw_at lw_m2 187 rfl) rfl
theorem q510 : (Jvm.Cond.fieldLink "PointsForAll$Change" (19 : Nat) "PointsForAll$Change" "behind" "I") ∈ lw_all := lw_g (lw_at lw_m2 189 rfl) rfl
theorem q512 : (Jvm.Cond.laysFinal "PointsForAll$Change" "PointsForAll$Change" "of" "I") ∈ lw_all := lw_g (lw_at lw_m2 191 rfl) rfl
theorem q513 : (Jvm.Cond.soleField "PointsForAll$Change" "of") ∈ lw_all := lw_g (lw_at lw_m2 192 rfl) rfl
theorem q514 : (Jvm.Cond.laysFinal "PointsForAll$Change" "PointsForAll$Change" "at" "I") ∈ lw_all := lw_g (lw_at lw_m2 193 rfl) rfl
theorem q515 : (Jvm.Cond.soleField "PointsForAll$Change" "at") ∈ lw_all := lw_g (lw_at lw_m2 194 rfl) rfl
theorem q516 : (Jvm.Cond.laysFinal "PointsForAll$Change" "PointsForAll$Change" "before" "I") ∈ lw_all := lw_g (lw_at lw_m2 195 rfl) rfl
theorem q517 : (Jvm.Cond.soleField "PointsForAll$Change" "before") ∈ lw_all := lw_g (lw_at lw_m2 196 rfl) rfl
theorem q518 : (Jvm.Cond.laysFinal "PointsForAll$Change" "PointsForAll$Change" "behind" "I") ∈ lw_all := lw_g (lw_at lw_m2 197 rfl) rfl
theorem q519 : (Jvm.Cond.soleField "PointsForAll$Change" "behind") ∈ lw_all := lw_g (lw_at lw_m2 198 rfl) rfl
theorem q520 : (Jvm.Cond.superclass "PointsForAll$Change" "java/lang/Object") ∈ lw_all := lw_g (lw_at lw_m2 199 rfl) rfl
theorem in_X4 : ∀ w ∈ wsX40, w ∈ lw_all := lw_in wsX40 [512, 514, 516, 518] (by decide +kernel) (by decide +kernel)

/-! PointsForAll$Sort -/
set_option maxRecDepth 100000
def RX5 : String := "PointsForAll$Sort"
def TX5 : u_T := fun k => match k with
  | 0 => ("PointsForAll$Sort", "heads", "I", true)
  | 1 => ("PointsForAll$Sort", "babies", "I", true)
  | 2 => ("PointsForAll$Sort", "want", "I", true)
  | 3 => ("PointsForAll$Sort", "purse", "I", false)
  | 4 => ("PointsForAll$Sort", "book", "I", false)
  | _ => ("PointsForAll$Sort", "told", "I", false)
def tyX5 : Nat → FieldType := fun k => match k with
  | 0 => .int
  | 1 => .int
  | 2 => .int
  | 3 => .int
  | 4 => .int
  | _ => .int
abbrev wsX50 : List Cond := u_ws RX5 TX5 6
theorem nmX5 : ∀ a, a < 6 → ∀ b, b < 6 → a ≠ b → (TX5 a).2.1 ≠ (TX5 b).2.1 := by decide +kernel
theorem tyX5_ok : ∀ k, k < 6 → parseFieldDescriptor (TX5 k).2.2.1 = some (tyX5 k) := by decide +kernel
abbrev cX5_init : ByteArray := prog_26_method_1_code
def yX5_init : MethodName := ⟨RX5, "<init>", "(IIIII)V"⟩
def dkwX5_init_1 : List UInt8 := [181, 0, 21, 42, 21, 5, 181, 0, 24, 177]
abbrev dktX5_init_1 : List UInt8 := dkwX5_init_1 ++ []
def dkwX5_init_0 : List UInt8 := [42, 183, 0, 3, 42, 27, 181, 0, 9, 42, 28, 181, 0, 15, 42, 29, 181, 0, 18, 42, 21, 4]
abbrev dktX5_init_0 : List UInt8 := dkwX5_init_0 ++ dktX5_init_1
theorem dksX5_init_0 : cX5_init.data.toList.drop 0 = dktX5_init_0 := by decide +kernel
theorem dksX5_init_1 : cX5_init.data.toList.drop 22 = dktX5_init_1 := dk_seg dksX5_init_0 22 rfl rfl
theorem dX5_init_0 : decode cX5_init 0 = .ok (.aload_n 0, 1) := dk_42 (dk_at dksX5_init_0 0 rfl rfl)
theorem dX5_init_1 : decode cX5_init 1 = .ok (.invokespecial 3, 3) := dk_183 0 3 (dk_at dksX5_init_0 1 rfl rfl)
theorem dX5_init_4 : decode cX5_init 4 = .ok (.aload_n 0, 1) := dk_42 (dk_at dksX5_init_0 4 rfl rfl)
theorem dX5_init_5 : decode cX5_init 5 = .ok (.iload_n 1, 1) := dk_27 (dk_at dksX5_init_0 5 rfl rfl)
theorem dX5_init_6 : decode cX5_init 6 = .ok (.putfield 9, 3) := dk_181 0 9 (dk_at dksX5_init_0 6 rfl rfl)
theorem dX5_init_9 : decode cX5_init 9 = .ok (.aload_n 0, 1) := dk_42 (dk_at dksX5_init_0 9 rfl rfl)
theorem dX5_init_10 : decode cX5_init 10 = .ok (.iload_n 2, 1) := dk_28 (dk_at dksX5_init_0 10 rfl rfl)
theorem dX5_init_11 : decode cX5_init 11 = .ok (.putfield 15, 3) := dk_181 0 15 (dk_at dksX5_init_0 11 rfl rfl)
theorem dX5_init_14 : decode cX5_init 14 = .ok (.aload_n 0, 1) := dk_42 (dk_at dksX5_init_0 14 rfl rfl)
theorem dX5_init_15 : decode cX5_init 15 = .ok (.iload_n 3, 1) := dk_29 (dk_at dksX5_init_0 15 rfl rfl)
theorem dX5_init_16 : decode cX5_init 16 = .ok (.putfield 18, 3) := dk_181 0 18 (dk_at dksX5_init_0 16 rfl rfl)
theorem dX5_init_19 : decode cX5_init 19 = .ok (.aload_n 0, 1) := dk_42 (dk_at dksX5_init_0 19 rfl rfl)
theorem dX5_init_20 : decode cX5_init 20 = .ok (.iload 4, 2) := dk_21 4 (dk_at dksX5_init_0 20 rfl rfl)
theorem dX5_init_22 : decode cX5_init 22 = .ok (.putfield 21, 3) := dk_181 0 21 (dk_at dksX5_init_1 0 rfl rfl)
theorem dX5_init_25 : decode cX5_init 25 = .ok (.aload_n 0, 1) := dk_42 (dk_at dksX5_init_1 3 rfl rfl)
theorem dX5_init_26 : decode cX5_init 26 = .ok (.iload 5, 2) := dk_21 5 (dk_at dksX5_init_1 4 rfl rfl)
theorem dX5_init_28 : decode cX5_init 28 = .ok (.putfield 24, 3) := dk_181 0 24 (dk_at dksX5_init_1 6 rfl rfl)
theorem dX5_init_31 : decode cX5_init 31 = .ok (.return_, 1) := dk_177 (dk_at dksX5_init_1 9 rfl rfl)
abbrev cX5_points : ByteArray := prog_26_method_2_code
def yX5_points : MethodName := ⟨RX5, "points", "()I"⟩
def dkwX5_points_0 : List UInt8 := [42, 180, 0, 18, 16, 10, 42, 180, 0, 21, 104, 96, 172]
abbrev dktX5_points_0 : List UInt8 := dkwX5_points_0 ++ []
theorem dksX5_points_0 : cX5_points.data.toList.drop 0 = dktX5_points_0 := by decide +kernel
theorem dX5_points_0 : decode cX5_points 0 = .ok (.aload_n 0, 1) := dk_42 (dk_at dksX5_points_0 0 rfl rfl)
theorem dX5_points_1 : decode cX5_points 1 = .ok (.getfield 18, 3) := dk_180 0 18 (dk_at dksX5_points_0 1 rfl rfl)
theorem dX5_points_4 : decode cX5_points 4 = .ok (.bipush 10, 2) := dk_16 10 (dk_at dksX5_points_0 4 rfl rfl)
theorem dX5_points_6 : decode cX5_points 6 = .ok (.aload_n 0, 1) := dk_42 (dk_at dksX5_points_0 6 rfl rfl)
theorem dX5_points_7 : decode cX5_points 7 = .ok (.getfield 21, 3) := dk_180 0 21 (dk_at dksX5_points_0 7 rfl rfl)
theorem dX5_points_10 : decode cX5_points 10 = .ok (.imul, 1) := dk_104 (dk_at dksX5_points_0 10 rfl rfl)
theorem dX5_points_11 : decode cX5_points 11 = .ok (.iadd, 1) := dk_96 (dk_at dksX5_points_0 11 rfl rfl)
theorem dX5_points_12 : decode cX5_points 12 = .ok (.ireturn, 1) := dk_172 (dk_at dksX5_points_0 12 rfl rfl)
theorem q95 : (Jvm.Cond.initialized "PointsForAll$Sort") ∈ lw_all := lw_g (lw_at lw_m1 14 rfl) rfl
theorem q430 : (Jvm.Cond.instantiable "PointsForAll$Sort" (6 : Nat)) ∈ lw_all := lw_g (lw_at lw_m2 109 rfl) rfl
theorem q432 : (Jvm.Cond.instanceMethod ({ cls := "PointsForAll$Sort", name := "<init>", desc := "(IIIII)V" } : Jvm.MethodName)) ∈ lw_all := lw_g (lw_at lw_m2 111 rfl) rfl
theorem q433 : (Jvm.Cond.code ({ cls := "PointsForAll$Sort", name := "<init>", desc := "(IIIII)V" } : Jvm.MethodName) prog_26_method_1_code (6 : Nat) (Option.none : Option Jvm.ClassFile.FieldType)) ∈ lw_all := lw_g (lw_at lw_m2 112 rfl) rfl
theorem q434 : (Jvm.Cond.methodLink "PointsForAll$Sort" (3 : Nat) ({ cls := "java/lang/Object", name := "<init>", desc := "()V" } : Jvm.MethodName)) ∈ lw_all := lw_g (lw_at lw_m2 113 rfl) rfl
theorem q435 : (Jvm.Cond.fieldLink "PointsForAll$Sort" (9 : Nat) "PointsForAll$Sort" "heads" "I") ∈ lw_all := lw_g (lw_at lw_m2 114 rfl) rfl
theorem q437 : (Jvm.Cond.fieldLink "PointsForAll$Sort" (21 : Nat) "PointsForAll$Sort" "babies" "I") ∈ lw_all := lw_g (lw_at lw_m2 116 rfl) rfl
theorem q439 : (Jvm.Cond.fieldLink "PointsForAll$Sort" (24 : Nat) "PointsForAll$Sort" "want" "I") ∈ lw_all := lw_g (lw_at lw_m2 118 rfl) rfl
theorem q441 : (Jvm.Cond.fieldLink "PointsForAll$Sort" (15 : Nat) "PointsForAll$Sort" "purse" "I") ∈ lw_all := lw_g (lw_at lw_m2 120 rfl) rfl
theorem q443 : (Jvm.Cond.fieldLink "PointsForAll$Sort" (18 : Nat) "PointsForAll$Sort" "book" "I") ∈ lw_all := lw_g (lw_at lw_m2 122 rfl) rfl
theorem q446 : (Jvm.Cond.laysFinal "PointsForAll$Sort" "PointsForAll$Sort" "heads" "I") ∈ lw_all := lw_g (lw_at lw_m2 125 rfl) rfl
theorem q447 : (Jvm.Cond.soleField "PointsForAll$Sort" "heads") ∈ lw_all := lw_g (lw_at lw_m2 126 rfl) rfl
theorem q448 : (Jvm.Cond.laysFinal "PointsForAll$Sort" "PointsForAll$Sort" "babies" "I") ∈ lw_all := lw_g (lw_at lw_m2 127 rfl) rfl
theorem q449 : (Jvm.Cond.soleField "PointsForAll$Sort" "babies") ∈ lw_all := lw_g (lw_at lw_m2 128 rfl) rfl
theorem q450 : (Jvm.Cond.laysFinal "PointsForAll$Sort" "PointsForAll$Sort" "want" "I") ∈ lw_all := lw_g (lw_at lw_m2 129 rfl) rfl
theorem q451 : (Jvm.Cond.soleField "PointsForAll$Sort" "want") ∈ lw_all := lw_g (lw_at lw_m2 130 rfl) rfl
theorem q452 : (Jvm.Cond.lays "PointsForAll$Sort" "PointsForAll$Sort" "purse" "I") ∈ lw_all := lw_g (lw_at lw_m2 131 rfl) rfl
theorem q453 : (Jvm.Cond.soleField "PointsForAll$Sort" "purse") ∈ lw_all := lw_g (lw_at lw_m2 132 rfl) rfl
theorem q454 : (Jvm.Cond.lays "PointsForAll$Sort" "PointsForAll$Sort" "book" "I") ∈ lw_all := lw_g (lw_at lw_m2 133 rfl) rfl
theorem q455 : (Jvm.Cond.soleField "PointsForAll$Sort" "book") ∈ lw_all := lw_g (lw_at lw_m2 134 rfl) rfl
theorem q456 : (Jvm.Cond.lays "PointsForAll$Sort" "PointsForAll$Sort" "told" "I") ∈ lw_all := lw_g (lw_at lw_m2 135 rfl) rfl
theorem q457 : (Jvm.Cond.soleField "PointsForAll$Sort" "told") ∈ lw_all := lw_g (lw_at lw_m2 136 rfl) rfl
theorem q458 : (Jvm.Cond.superclass "PointsForAll$Sort" "java/lang/Object") ∈ lw_all := lw_g (lw_at lw_m2 137 rfl) rfl
theorem q468 : (Jvm.Cond.instanceMethod ({ cls := "PointsForAll$Sort", name := "points", desc := "()I" } : Jvm.MethodName)) ∈ lw_all := lw_g (lw_at lw_m2 147 rfl) rfl
theorem q469 : (Jvm.Cond.selects "PointsForAll$Sort" ({ cls := "PointsForAll$Sort", name := "points", desc := "()I" } : Jvm.MethodName) ({ cls := "PointsForAll$Sort", name := "points", desc := "()I" } : Jvm.MethodName)) ∈ lw_all := lw_g (lw_at lw_m2 148 rfl) rfl
theorem q470 : (Jvm.Cond.code ({ cls := "PointsForAll$Sort", name := "points", desc := "()I" } : Jvm.MethodName) prog_26_method_2_code (1 : Nat) (Option.some Jvm.ClassFile.FieldType.int)) ∈ lw_all := lw_g (lw_at lw_m2 149 rfl) rfl
theorem in_X5 : ∀ w ∈ wsX50, w ∈ lw_all := lw_in wsX50 [446, 448, 450, 452, 454, 456] (by decide +kernel) (by decide +kernel)

/-! PointsForAll$Reader -/
set_option maxRecDepth 100000
def RX6 : String := "PointsForAll$Reader"
def TX6 : u_T := fun k => match k with
  | 0 => ("PointsForAll$Reader", "at", "I", false)
  | 1 => ("PointsForAll$Reader", "fault", "I", false)
  | 2 => ("PointsForAll$Reader", "open", "I", false)
  | _ => ("PointsForAll$Reader", "this$0", "LPointsForAll;", true)
def tyX6 : Nat → FieldType := fun k => match k with
  | 0 => .int
  | 1 => .int
  | 2 => .int
  | _ => .object "PointsForAll"
abbrev wsX60 : List Cond := u_ws RX6 TX6 4
theorem nmX6 : ∀ a, a < 4 → ∀ b, b < 4 → a ≠ b → (TX6 a).2.1 ≠ (TX6 b).2.1 := by decide +kernel
theorem tyX6_ok : ∀ k, k < 4 → parseFieldDescriptor (TX6 k).2.2.1 = some (tyX6 k) := by decide +kernel
abbrev cX6_init : ByteArray := prog_23_method_1_code
def yX6_init : MethodName := ⟨RX6, "<init>", "(LPointsForAll;)V"⟩
def dkwX6_init_0 : List UInt8 := [42, 43, 181, 0, 3, 42, 183, 0, 9, 42, 2, 181, 0, 15, 177]
abbrev dktX6_init_0 : List UInt8 := dkwX6_init_0 ++ []
theorem dksX6_init_0 : cX6_init.data.toList.drop 0 = dktX6_init_0 := by decide +kernel
theorem dX6_init_0 : decode cX6_init 0 = .ok (.aload_n 0, 1) := dk_42 (dk_at dksX6_init_0 0 rfl rfl)
theorem dX6_init_1 : decode cX6_init 1 = .ok (.aload_n 1, 1) := dk_43 (dk_at dksX6_init_0 1 rfl rfl)
theorem dX6_init_2 : decode cX6_init 2 = .ok (.putfield 3, 3) := dk_181 0 3 (dk_at dksX6_init_0 2 rfl rfl)
theorem dX6_init_5 : decode cX6_init 5 = .ok (.aload_n 0, 1) := dk_42 (dk_at dksX6_init_0 5 rfl rfl)
theorem dX6_init_6 : decode cX6_init 6 = .ok (.invokespecial 9, 3) := dk_183 0 9 (dk_at dksX6_init_0 6 rfl rfl)
theorem dX6_init_9 : decode cX6_init 9 = .ok (.aload_n 0, 1) := dk_42 (dk_at dksX6_init_0 9 rfl rfl)
theorem dX6_init_10 : decode cX6_init 10 = .ok (.iconst (-1), 1) := dk_2 (dk_at dksX6_init_0 10 rfl rfl)
theorem dX6_init_11 : decode cX6_init 11 = .ok (.putfield 15, 3) := dk_181 0 15 (dk_at dksX6_init_0 11 rfl rfl)
theorem dX6_init_14 : decode cX6_init 14 = .ok (.return_, 1) := dk_177 (dk_at dksX6_init_0 14 rfl rfl)
abbrev cX6_lines : ByteArray := prog_23_method_5_code
def yX6_lines : MethodName := ⟨RX6, "lines", "()LPointsForAll$Line;"⟩
def dkwX6_lines_3 : List UInt8 := [42, 42, 180, 0, 19, 181, 0, 15, 43, 176]
abbrev dktX6_lines_3 : List UInt8 := dkwX6_lines_3 ++ []
def dkwX6_lines_2 : List UInt8 := [167, 255, 217, 42, 180, 0, 15, 156, 0, 25, 42, 180, 0, 19, 42, 180, 0, 3, 180, 0, 22, 162, 0, 11]
abbrev dktX6_lines_2 : List UInt8 := dkwX6_lines_2 ++ dktX6_lines_3
def dkwX6_lines_1 : List UInt8 := [89, 180, 0, 19, 4, 96, 181, 0, 19, 44, 42, 182, 0, 39, 181, 0, 43, 44, 180, 0, 43, 77]
abbrev dktX6_lines_1 : List UInt8 := dkwX6_lines_1 ++ dktX6_lines_2
def dkwX6_lines_0 : List UInt8 := [42, 182, 0, 39, 76, 43, 77, 42, 180, 0, 15, 156, 0, 38, 42, 182, 0, 29, 16, 59, 160, 0, 29, 42]
abbrev dktX6_lines_0 : List UInt8 := dkwX6_lines_0 ++ dktX6_lines_1
theorem dksX6_lines_0 : cX6_lines.data.toList.drop 0 = dktX6_lines_0 := by decide +kernel
theorem dksX6_lines_1 : cX6_lines.data.toList.drop 24 = dktX6_lines_1 := dk_seg dksX6_lines_0 24 rfl rfl
theorem dksX6_lines_2 : cX6_lines.data.toList.drop 46 = dktX6_lines_2 := dk_seg dksX6_lines_1 22 rfl rfl
theorem dksX6_lines_3 : cX6_lines.data.toList.drop 70 = dktX6_lines_3 := dk_seg dksX6_lines_2 24 rfl rfl
theorem dX6_lines_0 : decode cX6_lines 0 = .ok (.aload_n 0, 1) := dk_42 (dk_at dksX6_lines_0 0 rfl rfl)
theorem dX6_lines_1 : decode cX6_lines 1 = .ok (.invokevirtual 39, 3) := dk_182 0 39 (dk_at dksX6_lines_0 1 rfl rfl)
theorem dX6_lines_4 : decode cX6_lines 4 = .ok (.astore_n 1, 1) := dk_76 (dk_at dksX6_lines_0 4 rfl rfl)
theorem dX6_lines_5 : decode cX6_lines 5 = .ok (.aload_n 1, 1) := dk_43 (dk_at dksX6_lines_0 5 rfl rfl)
theorem dX6_lines_6 : decode cX6_lines 6 = .ok (.astore_n 2, 1) := dk_77 (dk_at dksX6_lines_0 6 rfl rfl)
theorem dX6_lines_7 : decode cX6_lines 7 = .ok (.aload_n 0, 1) := dk_42 (dk_at dksX6_lines_0 7 rfl rfl)
theorem dX6_lines_8 : decode cX6_lines 8 = .ok (.getfield 15, 3) := dk_180 0 15 (dk_at dksX6_lines_0 8 rfl rfl)
theorem dX6_lines_11 : decode cX6_lines 11 = .ok (.ifCond .ge 38, 3) := dk_156 0 38 (dk_at dksX6_lines_0 11 rfl rfl)
theorem dX6_lines_14 : decode cX6_lines 14 = .ok (.aload_n 0, 1) := dk_42 (dk_at dksX6_lines_0 14 rfl rfl)
theorem dX6_lines_15 : decode cX6_lines 15 = .ok (.invokevirtual 29, 3) := dk_182 0 29 (dk_at dksX6_lines_0 15 rfl rfl)
theorem dX6_lines_18 : decode cX6_lines 18 = .ok (.bipush 59, 2) := dk_16 59 (dk_at dksX6_lines_0 18 rfl rfl)
theorem dX6_lines_20 : decode cX6_lines 20 = .ok (.if_icmp .ne 29, 3) := dk_160 0 29 (dk_at dksX6_lines_0 20 rfl rfl)
theorem dX6_lines_23 : decode cX6_lines 23 = .ok (.aload_n 0, 1) := dk_42 (dk_at dksX6_lines_0 23 rfl rfl)
theorem dX6_lines_24 : decode cX6_lines 24 = .ok (.dup, 1) := dk_89 (dk_at dksX6_lines_1 0 rfl rfl)
theorem dX6_lines_25 : decode cX6_lines 25 = .ok (.getfield 19, 3) := dk_180 0 19 (dk_at dksX6_lines_1 1 rfl rfl)
theorem dX6_lines_28 : decode cX6_lines 28 = .ok (.iconst 1, 1) := dk_4 (dk_at dksX6_lines_1 4 rfl rfl)
theorem dX6_lines_29 : decode cX6_lines 29 = .ok (.iadd, 1) := dk_96 (dk_at dksX6_lines_1 5 rfl rfl)
theorem dX6_lines_30 : decode cX6_lines 30 = .ok (.putfield 19, 3) := dk_181 0 19 (dk_at dksX6_lines_1 6 rfl rfl)
theorem dX6_lines_33 : decode cX6_lines 33 = .ok (.aload_n 2, 1) := dk_44 (dk_at dksX6_lines_1 9 rfl rfl)
theorem dX6_lines_34 : decode cX6_lines 34 = .ok (.aload_n 0, 1) := dk_42 (dk_at dksX6_lines_1 10 rfl rfl)
theorem dX6_lines_35 : decode cX6_lines 35 = .ok (.invokevirtual 39, 3) := dk_182 0 39 (dk_at dksX6_lines_1 11 rfl rfl)
theorem dX6_lines_38 : decode cX6_lines 38 = .ok (.putfield 43, 3) := dk_181 0 43 (dk_at dksX6_lines_1 14 rfl rfl)
theorem dX6_lines_41 : decode cX6_lines 41 = .ok (.aload_n 2, 1) := dk_44 (dk_at dksX6_lines_1 17 rfl rfl)
theorem dX6_lines_42 : decode cX6_lines 42 = .ok (.getfield 43, 3) := dk_180 0 43 (dk_at dksX6_lines_1 18 rfl rfl)
theorem dX6_lines_45 : decode cX6_lines 45 = .ok (.astore_n 2, 1) := dk_77 (dk_at dksX6_lines_1 21 rfl rfl)
theorem dX6_lines_46 : decode cX6_lines 46 = .ok (.goto (-39), 3) := dk_167 255 217 (dk_at dksX6_lines_2 0 rfl rfl)
theorem dX6_lines_49 : decode cX6_lines 49 = .ok (.aload_n 0, 1) := dk_42 (dk_at dksX6_lines_2 3 rfl rfl)
theorem dX6_lines_50 : decode cX6_lines 50 = .ok (.getfield 15, 3) := dk_180 0 15 (dk_at dksX6_lines_2 4 rfl rfl)
theorem dX6_lines_53 : decode cX6_lines 53 = .ok (.ifCond .ge 25, 3) := dk_156 0 25 (dk_at dksX6_lines_2 7 rfl rfl)
theorem dX6_lines_56 : decode cX6_lines 56 = .ok (.aload_n 0, 1) := dk_42 (dk_at dksX6_lines_2 10 rfl rfl)
theorem dX6_lines_57 : decode cX6_lines 57 = .ok (.getfield 19, 3) := dk_180 0 19 (dk_at dksX6_lines_2 11 rfl rfl)
theorem dX6_lines_60 : decode cX6_lines 60 = .ok (.aload_n 0, 1) := dk_42 (dk_at dksX6_lines_2 14 rfl rfl)
theorem dX6_lines_61 : decode cX6_lines 61 = .ok (.getfield 3, 3) := dk_180 0 3 (dk_at dksX6_lines_2 15 rfl rfl)
theorem dX6_lines_64 : decode cX6_lines 64 = .ok (.getfield 22, 3) := dk_180 0 22 (dk_at dksX6_lines_2 18 rfl rfl)
theorem dX6_lines_67 : decode cX6_lines 67 = .ok (.if_icmp .ge 11, 3) := dk_162 0 11 (dk_at dksX6_lines_2 21 rfl rfl)
theorem dX6_lines_70 : decode cX6_lines 70 = .ok (.aload_n 0, 1) := dk_42 (dk_at dksX6_lines_3 0 rfl rfl)
theorem dX6_lines_71 : decode cX6_lines 71 = .ok (.aload_n 0, 1) := dk_42 (dk_at dksX6_lines_3 1 rfl rfl)
theorem dX6_lines_72 : decode cX6_lines 72 = .ok (.getfield 19, 3) := dk_180 0 19 (dk_at dksX6_lines_3 2 rfl rfl)
theorem dX6_lines_75 : decode cX6_lines 75 = .ok (.putfield 15, 3) := dk_181 0 15 (dk_at dksX6_lines_3 5 rfl rfl)
theorem dX6_lines_78 : decode cX6_lines 78 = .ok (.aload_n 1, 1) := dk_43 (dk_at dksX6_lines_3 8 rfl rfl)
theorem dX6_lines_79 : decode cX6_lines 79 = .ok (.areturn, 1) := dk_176 (dk_at dksX6_lines_3 9 rfl rfl)
abbrev cX6_line : ByteArray := prog_23_method_6_code
def yX6_line : MethodName := ⟨RX6, "line", "()LPointsForAll$Line;"⟩
def dkwX6_line_2 : List UInt8 := [180, 0, 54, 181, 0, 58, 43, 42, 182, 0, 50, 181, 0, 54, 43, 176]
abbrev dktX6_line_2 : List UInt8 := dkwX6_line_2 ++ []
def dkwX6_line_1 : List UInt8 := [182, 0, 29, 16, 63, 159, 0, 5, 43, 176, 42, 89, 180, 0, 19, 4, 96, 181, 0, 19, 43, 43]
abbrev dktX6_line_1 : List UInt8 := dkwX6_line_1 ++ dktX6_line_2
def dkwX6_line_0 : List UInt8 := [187, 0, 44, 89, 183, 0, 49, 76, 43, 42, 182, 0, 50, 181, 0, 54, 42, 180, 0, 15, 156, 0, 12, 42]
abbrev dktX6_line_0 : List UInt8 := dkwX6_line_0 ++ dktX6_line_1
theorem dksX6_line_0 : cX6_line.data.toList.drop 0 = dktX6_line_0 := by decide +kernel
theorem dksX6_line_1 : cX6_line.data.toList.drop 24 = dktX6_line_1 := dk_seg dksX6_line_0 24 rfl rfl
theorem dksX6_line_2 : cX6_line.data.toList.drop 46 = dktX6_line_2 := dk_seg dksX6_line_1 22 rfl rfl
theorem dX6_line_0 : decode cX6_line 0 = .ok (.new 44, 3) := dk_187 0 44 (dk_at dksX6_line_0 0 rfl rfl)
theorem dX6_line_3 : decode cX6_line 3 = .ok (.dup, 1) := dk_89 (dk_at dksX6_line_0 3 rfl rfl)
theorem dX6_line_4 : decode cX6_line 4 = .ok (.invokespecial 49, 3) := dk_183 0 49 (dk_at dksX6_line_0 4 rfl rfl)
theorem dX6_line_7 : decode cX6_line 7 = .ok (.astore_n 1, 1) := dk_76 (dk_at dksX6_line_0 7 rfl rfl)
theorem dX6_line_8 : decode cX6_line 8 = .ok (.aload_n 1, 1) := dk_43 (dk_at dksX6_line_0 8 rfl rfl)
theorem dX6_line_9 : decode cX6_line 9 = .ok (.aload_n 0, 1) := dk_42 (dk_at dksX6_line_0 9 rfl rfl)
theorem dX6_line_10 : decode cX6_line 10 = .ok (.invokevirtual 50, 3) := dk_182 0 50 (dk_at dksX6_line_0 10 rfl rfl)
theorem dX6_line_13 : decode cX6_line 13 = .ok (.putfield 54, 3) := dk_181 0 54 (dk_at dksX6_line_0 13 rfl rfl)
theorem dX6_line_16 : decode cX6_line 16 = .ok (.aload_n 0, 1) := dk_42 (dk_at dksX6_line_0 16 rfl rfl)
theorem dX6_line_17 : decode cX6_line 17 = .ok (.getfield 15, 3) := dk_180 0 15 (dk_at dksX6_line_0 17 rfl rfl)
theorem dX6_line_20 : decode cX6_line 20 = .ok (.ifCond .ge 12, 3) := dk_156 0 12 (dk_at dksX6_line_0 20 rfl rfl)
theorem dX6_line_23 : decode cX6_line 23 = .ok (.aload_n 0, 1) := dk_42 (dk_at dksX6_line_0 23 rfl rfl)
theorem dX6_line_24 : decode cX6_line 24 = .ok (.invokevirtual 29, 3) := dk_182 0 29 (dk_at dksX6_line_1 0 rfl rfl)
theorem dX6_line_27 : decode cX6_line 27 = .ok (.bipush 63, 2) := dk_16 63 (dk_at dksX6_line_1 3 rfl rfl)
theorem dX6_line_29 : decode cX6_line 29 = .ok (.if_icmp .eq 5, 3) := dk_159 0 5 (dk_at dksX6_line_1 5 rfl rfl)
theorem dX6_line_32 : decode cX6_line 32 = .ok (.aload_n 1, 1) := dk_43 (dk_at dksX6_line_1 8 rfl rfl)
theorem dX6_line_33 : decode cX6_line 33 = .ok (.areturn, 1) := dk_176 (dk_at dksX6_line_1 9 rfl rfl)
theorem dX6_line_34 : decode cX6_line 34 = .ok (.aload_n 0, 1) := dk_42 (dk_at dksX6_line_1 10 rfl rfl)
theorem dX6_line_35 : decode cX6_line 35 = .ok (.dup, 1) := dk_89 (dk_at dksX6_line_1 11 rfl rfl)
theorem dX6_line_36 : decode cX6_line 36 = .ok (.getfield 19, 3) := dk_180 0 19 (dk_at dksX6_line_1 12 rfl rfl)
theorem dX6_line_39 : decode cX6_line 39 = .ok (.iconst 1, 1) := dk_4 (dk_at dksX6_line_1 15 rfl rfl)
theorem dX6_line_40 : decode cX6_line 40 = .ok (.iadd, 1) := dk_96 (dk_at dksX6_line_1 16 rfl rfl)
theorem dX6_line_41 : decode cX6_line 41 = .ok (.putfield 19, 3) := dk_181 0 19 (dk_at dksX6_line_1 17 rfl rfl)
theorem dX6_line_44 : decode cX6_line 44 = .ok (.aload_n 1, 1) := dk_43 (dk_at dksX6_line_1 20 rfl rfl)
theorem dX6_line_45 : decode cX6_line 45 = .ok (.aload_n 1, 1) := dk_43 (dk_at dksX6_line_1 21 rfl rfl)
theorem dX6_line_46 : decode cX6_line 46 = .ok (.getfield 54, 3) := dk_180 0 54 (dk_at dksX6_line_2 0 rfl rfl)
theorem dX6_line_49 : decode cX6_line 49 = .ok (.putfield 58, 3) := dk_181 0 58 (dk_at dksX6_line_2 3 rfl rfl)
theorem dX6_line_52 : decode cX6_line 52 = .ok (.aload_n 1, 1) := dk_43 (dk_at dksX6_line_2 6 rfl rfl)
theorem dX6_line_53 : decode cX6_line 53 = .ok (.aload_n 0, 1) := dk_42 (dk_at dksX6_line_2 7 rfl rfl)
theorem dX6_line_54 : decode cX6_line 54 = .ok (.invokevirtual 50, 3) := dk_182 0 50 (dk_at dksX6_line_2 8 rfl rfl)
theorem dX6_line_57 : decode cX6_line 57 = .ok (.putfield 54, 3) := dk_181 0 54 (dk_at dksX6_line_2 11 rfl rfl)
theorem dX6_line_60 : decode cX6_line 60 = .ok (.aload_n 1, 1) := dk_43 (dk_at dksX6_line_2 14 rfl rfl)
theorem dX6_line_61 : decode cX6_line 61 = .ok (.areturn, 1) := dk_176 (dk_at dksX6_line_2 15 rfl rfl)
abbrev cX6_either : ByteArray := prog_23_method_8_code
def yX6_either : MethodName := ⟨RX6, "either", "()LPointsForAll$Node;"⟩
def dkwX6_either_2 : List UInt8 := [176]
abbrev dktX6_either_2 : List UInt8 := dkwX6_either_2 ++ []
def dkwX6_either_1 : List UInt8 := [180, 0, 19, 4, 96, 181, 0, 19, 42, 16, 124, 43, 42, 182, 0, 66, 182, 0, 69, 76, 167, 255, 218, 43]
abbrev dktX6_either_1 : List UInt8 := dkwX6_either_1 ++ dktX6_either_2
def dkwX6_either_0 : List UInt8 := [42, 182, 0, 66, 76, 42, 180, 0, 15, 156, 0, 37, 42, 182, 0, 29, 16, 124, 160, 0, 28, 42, 89]
abbrev dktX6_either_0 : List UInt8 := dkwX6_either_0 ++ dktX6_either_1
theorem dksX6_either_0 : cX6_either.data.toList.drop 0 = dktX6_either_0 := by decide +kernel
theorem dksX6_either_1 : cX6_either.data.toList.drop 23 = dktX6_either_1 := dk_seg dksX6_either_0 23 rfl rfl
theorem dksX6_either_2 : cX6_either.data.toList.drop 47 = dktX6_either_2 := dk_seg dksX6_either_1 24 rfl rfl
theorem dX6_either_0 : decode cX6_either 0 = .ok (.aload_n 0, 1) := dk_42 (dk_at dksX6_either_0 0 rfl rfl)
theorem dX6_either_1 : decode cX6_either 1 = .ok (.invokevirtual 66, 3) := dk_182 0 66 (dk_at dksX6_either_0 1 rfl rfl)
theorem dX6_either_4 : decode cX6_either 4 = .ok (.astore_n 1, 1) := dk_76 (dk_at dksX6_either_0 4 rfl rfl)
theorem dX6_either_5 : decode cX6_either 5 = .ok (.aload_n 0, 1) := dk_42 (dk_at dksX6_either_0 5 rfl rfl)
theorem dX6_either_6 : decode cX6_either 6 = .ok (.getfield 15, 3) := dk_180 0 15 (dk_at dksX6_either_0 6 rfl rfl)
theorem dX6_either_9 : decode cX6_either 9 = .ok (.ifCond .ge 37, 3) := dk_156 0 37 (dk_at dksX6_either_0 9 rfl rfl)
theorem dX6_either_12 : decode cX6_either 12 = .ok (.aload_n 0, 1) := dk_42 (dk_at dksX6_either_0 12 rfl rfl)
theorem dX6_either_13 : decode cX6_either 13 = .ok (.invokevirtual 29, 3) := dk_182 0 29 (dk_at dksX6_either_0 13 rfl rfl)
theorem dX6_either_16 : decode cX6_either 16 = .ok (.bipush 124, 2) := dk_16 124 (dk_at dksX6_either_0 16 rfl rfl)
theorem dX6_either_18 : decode cX6_either 18 = .ok (.if_icmp .ne 28, 3) := dk_160 0 28 (dk_at dksX6_either_0 18 rfl rfl)
theorem dX6_either_21 : decode cX6_either 21 = .ok (.aload_n 0, 1) := dk_42 (dk_at dksX6_either_0 21 rfl rfl)
theorem dX6_either_22 : decode cX6_either 22 = .ok (.dup, 1) := dk_89 (dk_at dksX6_either_0 22 rfl rfl)
theorem dX6_either_23 : decode cX6_either 23 = .ok (.getfield 19, 3) := dk_180 0 19 (dk_at dksX6_either_1 0 rfl rfl)
theorem dX6_either_26 : decode cX6_either 26 = .ok (.iconst 1, 1) := dk_4 (dk_at dksX6_either_1 3 rfl rfl)
theorem dX6_either_27 : decode cX6_either 27 = .ok (.iadd, 1) := dk_96 (dk_at dksX6_either_1 4 rfl rfl)
theorem dX6_either_28 : decode cX6_either 28 = .ok (.putfield 19, 3) := dk_181 0 19 (dk_at dksX6_either_1 5 rfl rfl)
theorem dX6_either_31 : decode cX6_either 31 = .ok (.aload_n 0, 1) := dk_42 (dk_at dksX6_either_1 8 rfl rfl)
theorem dX6_either_32 : decode cX6_either 32 = .ok (.bipush 124, 2) := dk_16 124 (dk_at dksX6_either_1 9 rfl rfl)
theorem dX6_either_34 : decode cX6_either 34 = .ok (.aload_n 1, 1) := dk_43 (dk_at dksX6_either_1 11 rfl rfl)
theorem dX6_either_35 : decode cX6_either 35 = .ok (.aload_n 0, 1) := dk_42 (dk_at dksX6_either_1 12 rfl rfl)
theorem dX6_either_36 : decode cX6_either 36 = .ok (.invokevirtual 66, 3) := dk_182 0 66 (dk_at dksX6_either_1 13 rfl rfl)
theorem dX6_either_39 : decode cX6_either 39 = .ok (.invokevirtual 69, 3) := dk_182 0 69 (dk_at dksX6_either_1 16 rfl rfl)
theorem dX6_either_42 : decode cX6_either 42 = .ok (.astore_n 1, 1) := dk_76 (dk_at dksX6_either_1 19 rfl rfl)
theorem dX6_either_43 : decode cX6_either 43 = .ok (.goto (-38), 3) := dk_167 255 218 (dk_at dksX6_either_1 20 rfl rfl)
theorem dX6_either_46 : decode cX6_either 46 = .ok (.aload_n 1, 1) := dk_43 (dk_at dksX6_either_1 23 rfl rfl)
theorem dX6_either_47 : decode cX6_either 47 = .ok (.areturn, 1) := dk_176 (dk_at dksX6_either_2 0 rfl rfl)
abbrev cX6_all : ByteArray := prog_23_method_9_code
def yX6_all : MethodName := ⟨RX6, "all", "()LPointsForAll$Node;"⟩
def dkwX6_all_2 : List UInt8 := [176]
abbrev dktX6_all_2 : List UInt8 := dkwX6_all_2 ++ []
def dkwX6_all_1 : List UInt8 := [180, 0, 19, 4, 96, 181, 0, 19, 42, 16, 38, 43, 42, 182, 0, 73, 182, 0, 69, 76, 167, 255, 218, 43]
abbrev dktX6_all_1 : List UInt8 := dkwX6_all_1 ++ dktX6_all_2
def dkwX6_all_0 : List UInt8 := [42, 182, 0, 73, 76, 42, 180, 0, 15, 156, 0, 37, 42, 182, 0, 29, 16, 38, 160, 0, 28, 42, 89]
abbrev dktX6_all_0 : List UInt8 := dkwX6_all_0 ++ dktX6_all_1
theorem dksX6_all_0 : cX6_all.data.toList.drop 0 = dktX6_all_0 := by decide +kernel
theorem dksX6_all_1 : cX6_all.data.toList.drop 23 = dktX6_all_1 := dk_seg dksX6_all_0 23 rfl rfl
theorem dksX6_all_2 : cX6_all.data.toList.drop 47 = dktX6_all_2 := dk_seg dksX6_all_1 24 rfl rfl
theorem dX6_all_0 : decode cX6_all 0 = .ok (.aload_n 0, 1) := dk_42 (dk_at dksX6_all_0 0 rfl rfl)
theorem dX6_all_1 : decode cX6_all 1 = .ok (.invokevirtual 73, 3) := dk_182 0 73 (dk_at dksX6_all_0 1 rfl rfl)
theorem dX6_all_4 : decode cX6_all 4 = .ok (.astore_n 1, 1) := dk_76 (dk_at dksX6_all_0 4 rfl rfl)
theorem dX6_all_5 : decode cX6_all 5 = .ok (.aload_n 0, 1) := dk_42 (dk_at dksX6_all_0 5 rfl rfl)
theorem dX6_all_6 : decode cX6_all 6 = .ok (.getfield 15, 3) := dk_180 0 15 (dk_at dksX6_all_0 6 rfl rfl)
theorem dX6_all_9 : decode cX6_all 9 = .ok (.ifCond .ge 37, 3) := dk_156 0 37 (dk_at dksX6_all_0 9 rfl rfl)
theorem dX6_all_12 : decode cX6_all 12 = .ok (.aload_n 0, 1) := dk_42 (dk_at dksX6_all_0 12 rfl rfl)
theorem dX6_all_13 : decode cX6_all 13 = .ok (.invokevirtual 29, 3) := dk_182 0 29 (dk_at dksX6_all_0 13 rfl rfl)
theorem dX6_all_16 : decode cX6_all 16 = .ok (.bipush 38, 2) := dk_16 38 (dk_at dksX6_all_0 16 rfl rfl)
theorem dX6_all_18 : decode cX6_all 18 = .ok (.if_icmp .ne 28, 3) := dk_160 0 28 (dk_at dksX6_all_0 18 rfl rfl)
theorem dX6_all_21 : decode cX6_all 21 = .ok (.aload_n 0, 1) := dk_42 (dk_at dksX6_all_0 21 rfl rfl)
theorem dX6_all_22 : decode cX6_all 22 = .ok (.dup, 1) := dk_89 (dk_at dksX6_all_0 22 rfl rfl)
theorem dX6_all_23 : decode cX6_all 23 = .ok (.getfield 19, 3) := dk_180 0 19 (dk_at dksX6_all_1 0 rfl rfl)
theorem dX6_all_26 : decode cX6_all 26 = .ok (.iconst 1, 1) := dk_4 (dk_at dksX6_all_1 3 rfl rfl)
theorem dX6_all_27 : decode cX6_all 27 = .ok (.iadd, 1) := dk_96 (dk_at dksX6_all_1 4 rfl rfl)
theorem dX6_all_28 : decode cX6_all 28 = .ok (.putfield 19, 3) := dk_181 0 19 (dk_at dksX6_all_1 5 rfl rfl)
theorem dX6_all_31 : decode cX6_all 31 = .ok (.aload_n 0, 1) := dk_42 (dk_at dksX6_all_1 8 rfl rfl)
theorem dX6_all_32 : decode cX6_all 32 = .ok (.bipush 38, 2) := dk_16 38 (dk_at dksX6_all_1 9 rfl rfl)
theorem dX6_all_34 : decode cX6_all 34 = .ok (.aload_n 1, 1) := dk_43 (dk_at dksX6_all_1 11 rfl rfl)
theorem dX6_all_35 : decode cX6_all 35 = .ok (.aload_n 0, 1) := dk_42 (dk_at dksX6_all_1 12 rfl rfl)
theorem dX6_all_36 : decode cX6_all 36 = .ok (.invokevirtual 73, 3) := dk_182 0 73 (dk_at dksX6_all_1 13 rfl rfl)
theorem dX6_all_39 : decode cX6_all 39 = .ok (.invokevirtual 69, 3) := dk_182 0 69 (dk_at dksX6_all_1 16 rfl rfl)
theorem dX6_all_42 : decode cX6_all 42 = .ok (.astore_n 1, 1) := dk_76 (dk_at dksX6_all_1 19 rfl rfl)
theorem dX6_all_43 : decode cX6_all 43 = .ok (.goto (-38), 3) := dk_167 255 218 (dk_at dksX6_all_1 20 rfl rfl)
theorem dX6_all_46 : decode cX6_all 46 = .ok (.aload_n 1, 1) := dk_43 (dk_at dksX6_all_1 23 rfl rfl)
theorem dX6_all_47 : decode cX6_all 47 = .ok (.areturn, 1) := dk_176 (dk_at dksX6_all_2 0 rfl rfl)
abbrev cX6_compared : ByteArray := prog_23_method_10_code
def yX6_compared : MethodName := ⟨RX6, "compared", "()LPointsForAll$Node;"⟩
def dkwX6_compared_2 : List UInt8 := [176]
abbrev dktX6_compared_2 : List UInt8 := dkwX6_compared_2 ++ []
def dkwX6_compared_1 : List UInt8 := [182, 0, 29, 61, 42, 89, 180, 0, 19, 4, 96, 181, 0, 19, 42, 28, 43, 42, 182, 0, 76, 182, 0, 69]
abbrev dktX6_compared_1 : List UInt8 := dkwX6_compared_1 ++ dktX6_compared_2
def dkwX6_compared_0 : List UInt8 := [42, 182, 0, 76, 76, 42, 180, 0, 15, 156, 0, 12, 42, 18, 79, 182, 0, 81, 154, 0, 5, 43, 176, 42]
abbrev dktX6_compared_0 : List UInt8 := dkwX6_compared_0 ++ dktX6_compared_1
theorem dksX6_compared_0 : cX6_compared.data.toList.drop 0 = dktX6_compared_0 := by decide +kernel
theorem dksX6_compared_1 : cX6_compared.data.toList.drop 24 = dktX6_compared_1 := dk_seg dksX6_compared_0 24 rfl rfl
theorem dksX6_compared_2 : cX6_compared.data.toList.drop 48 = dktX6_compared_2 := dk_seg dksX6_compared_1 24 rfl rfl
theorem dX6_compared_0 : decode cX6_compared 0 = .ok (.aload_n 0, 1) := dk_42 (dk_at dksX6_compared_0 0 rfl rfl)
theorem dX6_compared_1 : decode cX6_compared 1 = .ok (.invokevirtual 76, 3) := dk_182 0 76 (dk_at dksX6_compared_0 1 rfl rfl)
theorem dX6_compared_4 : decode cX6_compared 4 = .ok (.astore_n 1, 1) := dk_76 (dk_at dksX6_compared_0 4 rfl rfl)
theorem dX6_compared_5 : decode cX6_compared 5 = .ok (.aload_n 0, 1) := dk_42 (dk_at dksX6_compared_0 5 rfl rfl)
theorem dX6_compared_6 : decode cX6_compared 6 = .ok (.getfield 15, 3) := dk_180 0 15 (dk_at dksX6_compared_0 6 rfl rfl)
theorem dX6_compared_9 : decode cX6_compared 9 = .ok (.ifCond .ge 12, 3) := dk_156 0 12 (dk_at dksX6_compared_0 9 rfl rfl)
theorem dX6_compared_12 : decode cX6_compared 12 = .ok (.aload_n 0, 1) := dk_42 (dk_at dksX6_compared_0 12 rfl rfl)
theorem dX6_compared_13 : decode cX6_compared 13 = .ok (.ldc 79, 2) := dk_18 79 (dk_at dksX6_compared_0 13 rfl rfl)
theorem dX6_compared_15 : decode cX6_compared 15 = .ok (.invokevirtual 81, 3) := dk_182 0 81 (dk_at dksX6_compared_0 15 rfl rfl)
theorem dX6_compared_18 : decode cX6_compared 18 = .ok (.ifCond .ne 5, 3) := dk_154 0 5 (dk_at dksX6_compared_0 18 rfl rfl)
theorem dX6_compared_21 : decode cX6_compared 21 = .ok (.aload_n 1, 1) := dk_43 (dk_at dksX6_compared_0 21 rfl rfl)
theorem dX6_compared_22 : decode cX6_compared 22 = .ok (.areturn, 1) := dk_176 (dk_at dksX6_compared_0 22 rfl rfl)
theorem dX6_compared_23 : decode cX6_compared 23 = .ok (.aload_n 0, 1) := dk_42 (dk_at dksX6_compared_0 23 rfl rfl)
theorem dX6_compared_24 : decode cX6_compared 24 = .ok (.invokevirtual 29, 3) := dk_182 0 29 (dk_at dksX6_compared_1 0 rfl rfl)
theorem dX6_compared_27 : decode cX6_compared 27 = .ok (.istore_n 2, 1) := dk_61 (dk_at dksX6_compared_1 3 rfl rfl)
theorem dX6_compared_28 : decode cX6_compared 28 = .ok (.aload_n 0, 1) := dk_42 (dk_at dksX6_compared_1 4 rfl rfl)
theorem dX6_compared_29 : decode cX6_compared 29 = .ok (.dup, 1) := dk_89 (dk_at dksX6_compared_1 5 rfl rfl)
theorem dX6_compared_30 : decode cX6_compared 30 = .ok (.getfield 19, 3) := dk_180 0 19 (dk_at dksX6_compared_1 6 rfl rfl)
theorem dX6_compared_33 : decode cX6_compared 33 = .ok (.iconst 1, 1) := dk_4 (dk_at dksX6_compared_1 9 rfl rfl)
theorem dX6_compared_34 : decode cX6_compared 34 = .ok (.iadd, 1) := dk_96 (dk_at dksX6_compared_1 10 rfl rfl)
theorem dX6_compared_35 : decode cX6_compared 35 = .ok (.putfield 19, 3) := dk_181 0 19 (dk_at dksX6_compared_1 11 rfl rfl)
theorem dX6_compared_38 : decode cX6_compared 38 = .ok (.aload_n 0, 1) := dk_42 (dk_at dksX6_compared_1 14 rfl rfl)
theorem dX6_compared_39 : decode cX6_compared 39 = .ok (.iload_n 2, 1) := dk_28 (dk_at dksX6_compared_1 15 rfl rfl)
theorem dX6_compared_40 : decode cX6_compared 40 = .ok (.aload_n 1, 1) := dk_43 (dk_at dksX6_compared_1 16 rfl rfl)
theorem dX6_compared_41 : decode cX6_compared 41 = .ok (.aload_n 0, 1) := dk_42 (dk_at dksX6_compared_1 17 rfl rfl)
theorem dX6_compared_42 : decode cX6_compared 42 = .ok (.invokevirtual 76, 3) := dk_182 0 76 (dk_at dksX6_compared_1 18 rfl rfl)
theorem dX6_compared_45 : decode cX6_compared 45 = .ok (.invokevirtual 69, 3) := dk_182 0 69 (dk_at dksX6_compared_1 21 rfl rfl)
theorem dX6_compared_48 : decode cX6_compared 48 = .ok (.areturn, 1) := dk_176 (dk_at dksX6_compared_2 0 rfl rfl)
abbrev cX6_sum : ByteArray := prog_23_method_11_code
def yX6_sum : MethodName := ⟨RX6, "sum", "()LPointsForAll$Node;"⟩
def dkwX6_sum_2 : List UInt8 := [76, 167, 255, 214, 43, 176]
abbrev dktX6_sum_2 : List UInt8 := dkwX6_sum_2 ++ []
def dkwX6_sum_1 : List UInt8 := [182, 0, 29, 61, 42, 89, 180, 0, 19, 4, 96, 181, 0, 19, 42, 28, 43, 42, 182, 0, 85, 182, 0, 69]
abbrev dktX6_sum_1 : List UInt8 := dkwX6_sum_1 ++ dktX6_sum_2
def dkwX6_sum_0 : List UInt8 := [42, 182, 0, 85, 76, 42, 180, 0, 15, 156, 0, 41, 42, 18, 88, 182, 0, 81, 153, 0, 32, 42]
abbrev dktX6_sum_0 : List UInt8 := dkwX6_sum_0 ++ dktX6_sum_1
theorem dksX6_sum_0 : cX6_sum.data.toList.drop 0 = dktX6_sum_0 := by decide +kernel
theorem dksX6_sum_1 : cX6_sum.data.toList.drop 22 = dktX6_sum_1 := dk_seg dksX6_sum_0 22 rfl rfl
theorem dksX6_sum_2 : cX6_sum.data.toList.drop 46 = dktX6_sum_2 := dk_seg dksX6_sum_1 24 rfl rfl
theorem dX6_sum_0 : decode cX6_sum 0 = .ok (.aload_n 0, 1) := dk_42 (dk_at dksX6_sum_0 0 rfl rfl)
theorem dX6_sum_1 : decode cX6_sum 1 = .ok (.invokevirtual 85, 3) := dk_182 0 85 (dk_at dksX6_sum_0 1 rfl rfl)
theorem dX6_sum_4 : decode cX6_sum 4 = .ok (.astore_n 1, 1) := dk_76 (dk_at dksX6_sum_0 4 rfl rfl)
theorem dX6_sum_5 : decode cX6_sum 5 = .ok (.aload_n 0, 1) := dk_42 (dk_at dksX6_sum_0 5 rfl rfl)
theorem dX6_sum_6 : decode cX6_sum 6 = .ok (.getfield 15, 3) := dk_180 0 15 (dk_at dksX6_sum_0 6 rfl rfl)
theorem dX6_sum_9 : decode cX6_sum 9 = .ok (.ifCond .ge 41, 3) := dk_156 0 41 (dk_at dksX6_sum_0 9 rfl rfl)
theorem dX6_sum_12 : decode cX6_sum 12 = .ok (.aload_n 0, 1) := dk_42 (dk_at dksX6_sum_0 12 rfl rfl)
theorem dX6_sum_13 : decode cX6_sum 13 = .ok (.ldc 88, 2) := dk_18 88 (dk_at dksX6_sum_0 13 rfl rfl)
theorem dX6_sum_15 : decode cX6_sum 15 = .ok (.invokevirtual 81, 3) := dk_182 0 81 (dk_at dksX6_sum_0 15 rfl rfl)
theorem dX6_sum_18 : decode cX6_sum 18 = .ok (.ifCond .eq 32, 3) := dk_153 0 32 (dk_at dksX6_sum_0 18 rfl rfl)
theorem dX6_sum_21 : decode cX6_sum 21 = .ok (.aload_n 0, 1) := dk_42 (dk_at dksX6_sum_0 21 rfl rfl)
theorem dX6_sum_22 : decode cX6_sum 22 = .ok (.invokevirtual 29, 3) := dk_182 0 29 (dk_at dksX6_sum_1 0 rfl rfl)
theorem dX6_sum_25 : decode cX6_sum 25 = .ok (.istore_n 2, 1) := dk_61 (dk_at dksX6_sum_1 3 rfl rfl)
theorem dX6_sum_26 : decode cX6_sum 26 = .ok (.aload_n 0, 1) := dk_42 (dk_at dksX6_sum_1 4 rfl rfl)
theorem dX6_sum_27 : decode cX6_sum 27 = .ok (.dup, 1) := dk_89 (dk_at dksX6_sum_1 5 rfl rfl)
theorem dX6_sum_28 : decode cX6_sum 28 = .ok (.getfield 19, 3) := dk_180 0 19 (dk_at dksX6_sum_1 6 rfl rfl)
theorem dX6_sum_31 : decode cX6_sum 31 = .ok (.iconst 1, 1) := dk_4 (dk_at dksX6_sum_1 9 rfl rfl)
theorem dX6_sum_32 : decode cX6_sum 32 = .ok (.iadd, 1) := dk_96 (dk_at dksX6_sum_1 10 rfl rfl)
theorem dX6_sum_33 : decode cX6_sum 33 = .ok (.putfield 19, 3) := dk_181 0 19 (dk_at dksX6_sum_1 11 rfl rfl)
theorem dX6_sum_36 : decode cX6_sum 36 = .ok (.aload_n 0, 1) := dk_42 (dk_at dksX6_sum_1 14 rfl rfl)
theorem dX6_sum_37 : decode cX6_sum 37 = .ok (.iload_n 2, 1) := dk_28 (dk_at dksX6_sum_1 15 rfl rfl)
theorem dX6_sum_38 : decode cX6_sum 38 = .ok (.aload_n 1, 1) := dk_43 (dk_at dksX6_sum_1 16 rfl rfl)
theorem dX6_sum_39 : decode cX6_sum 39 = .ok (.aload_n 0, 1) := dk_42 (dk_at dksX6_sum_1 17 rfl rfl)
theorem dX6_sum_40 : decode cX6_sum 40 = .ok (.invokevirtual 85, 3) := dk_182 0 85 (dk_at dksX6_sum_1 18 rfl rfl)
theorem dX6_sum_43 : decode cX6_sum 43 = .ok (.invokevirtual 69, 3) := dk_182 0 69 (dk_at dksX6_sum_1 21 rfl rfl)
theorem dX6_sum_46 : decode cX6_sum 46 = .ok (.astore_n 1, 1) := dk_76 (dk_at dksX6_sum_2 0 rfl rfl)
theorem dX6_sum_47 : decode cX6_sum 47 = .ok (.goto (-42), 3) := dk_167 255 214 (dk_at dksX6_sum_2 1 rfl rfl)
theorem dX6_sum_50 : decode cX6_sum 50 = .ok (.aload_n 1, 1) := dk_43 (dk_at dksX6_sum_2 4 rfl rfl)
theorem dX6_sum_51 : decode cX6_sum 51 = .ok (.areturn, 1) := dk_176 (dk_at dksX6_sum_2 5 rfl rfl)
abbrev cX6_product : ByteArray := prog_23_method_12_code
def yX6_product : MethodName := ⟨RX6, "product", "()LPointsForAll$Node;"⟩
def dkwX6_product_2 : List UInt8 := [76, 167, 255, 214, 43, 176]
abbrev dktX6_product_2 : List UInt8 := dkwX6_product_2 ++ []
def dkwX6_product_1 : List UInt8 := [182, 0, 29, 61, 42, 89, 180, 0, 19, 4, 96, 181, 0, 19, 42, 28, 43, 42, 182, 0, 90, 182, 0, 69]
abbrev dktX6_product_1 : List UInt8 := dkwX6_product_1 ++ dktX6_product_2
def dkwX6_product_0 : List UInt8 := [42, 182, 0, 90, 76, 42, 180, 0, 15, 156, 0, 41, 42, 18, 93, 182, 0, 81, 153, 0, 32, 42]
abbrev dktX6_product_0 : List UInt8 := dkwX6_product_0 ++ dktX6_product_1
theorem dksX6_product_0 : cX6_product.data.toList.drop 0 = dktX6_product_0 := by decide +kernel
theorem dksX6_product_1 : cX6_product.data.toList.drop 22 = dktX6_product_1 := dk_seg dksX6_product_0 22 rfl rfl
theorem dksX6_product_2 : cX6_product.data.toList.drop 46 = dktX6_product_2 := dk_seg dksX6_product_1 24 rfl rfl
theorem dX6_product_0 : decode cX6_product 0 = .ok (.aload_n 0, 1) := dk_42 (dk_at dksX6_product_0 0 rfl rfl)
theorem dX6_product_1 : decode cX6_product 1 = .ok (.invokevirtual 90, 3) := dk_182 0 90 (dk_at dksX6_product_0 1 rfl rfl)
theorem dX6_product_4 : decode cX6_product 4 = .ok (.astore_n 1, 1) := dk_76 (dk_at dksX6_product_0 4 rfl rfl)
theorem dX6_product_5 : decode cX6_product 5 = .ok (.aload_n 0, 1) := dk_42 (dk_at dksX6_product_0 5 rfl rfl)
theorem dX6_product_6 : decode cX6_product 6 = .ok (.getfield 15, 3) := dk_180 0 15 (dk_at dksX6_product_0 6 rfl rfl)
theorem dX6_product_9 : decode cX6_product 9 = .ok (.ifCond .ge 41, 3) := dk_156 0 41 (dk_at dksX6_product_0 9 rfl rfl)
theorem dX6_product_12 : decode cX6_product 12 = .ok (.aload_n 0, 1) := dk_42 (dk_at dksX6_product_0 12 rfl rfl)
theorem dX6_product_13 : decode cX6_product 13 = .ok (.ldc 93, 2) := dk_18 93 (dk_at dksX6_product_0 13 rfl rfl)
theorem dX6_product_15 : decode cX6_product 15 = .ok (.invokevirtual 81, 3) := dk_182 0 81 (dk_at dksX6_product_0 15 rfl rfl)
theorem dX6_product_18 : decode cX6_product 18 = .ok (.ifCond .eq 32, 3) := dk_153 0 32 (dk_at dksX6_product_0 18 rfl rfl)
theorem dX6_product_21 : decode cX6_product 21 = .ok (.aload_n 0, 1) := dk_42 (dk_at dksX6_product_0 21 rfl rfl)
theorem dX6_product_22 : decode cX6_product 22 = .ok (.invokevirtual 29, 3) := dk_182 0 29 (dk_at dksX6_product_1 0 rfl rfl)
theorem dX6_product_25 : decode cX6_product 25 = .ok (.istore_n 2, 1) := dk_61 (dk_at dksX6_product_1 3 rfl rfl)
theorem dX6_product_26 : decode cX6_product 26 = .ok (.aload_n 0, 1) := dk_42 (dk_at dksX6_product_1 4 rfl rfl)
theorem dX6_product_27 : decode cX6_product 27 = .ok (.dup, 1) := dk_89 (dk_at dksX6_product_1 5 rfl rfl)
theorem dX6_product_28 : decode cX6_product 28 = .ok (.getfield 19, 3) := dk_180 0 19 (dk_at dksX6_product_1 6 rfl rfl)
theorem dX6_product_31 : decode cX6_product 31 = .ok (.iconst 1, 1) := dk_4 (dk_at dksX6_product_1 9 rfl rfl)
theorem dX6_product_32 : decode cX6_product 32 = .ok (.iadd, 1) := dk_96 (dk_at dksX6_product_1 10 rfl rfl)
theorem dX6_product_33 : decode cX6_product 33 = .ok (.putfield 19, 3) := dk_181 0 19 (dk_at dksX6_product_1 11 rfl rfl)
theorem dX6_product_36 : decode cX6_product 36 = .ok (.aload_n 0, 1) := dk_42 (dk_at dksX6_product_1 14 rfl rfl)
theorem dX6_product_37 : decode cX6_product 37 = .ok (.iload_n 2, 1) := dk_28 (dk_at dksX6_product_1 15 rfl rfl)
theorem dX6_product_38 : decode cX6_product 38 = .ok (.aload_n 1, 1) := dk_43 (dk_at dksX6_product_1 16 rfl rfl)
theorem dX6_product_39 : decode cX6_product 39 = .ok (.aload_n 0, 1) := dk_42 (dk_at dksX6_product_1 17 rfl rfl)
theorem dX6_product_40 : decode cX6_product 40 = .ok (.invokevirtual 90, 3) := dk_182 0 90 (dk_at dksX6_product_1 18 rfl rfl)
theorem dX6_product_43 : decode cX6_product 43 = .ok (.invokevirtual 69, 3) := dk_182 0 69 (dk_at dksX6_product_1 21 rfl rfl)
theorem dX6_product_46 : decode cX6_product 46 = .ok (.astore_n 1, 1) := dk_76 (dk_at dksX6_product_2 0 rfl rfl)
theorem dX6_product_47 : decode cX6_product 47 = .ok (.goto (-42), 3) := dk_167 255 214 (dk_at dksX6_product_2 1 rfl rfl)
theorem dX6_product_50 : decode cX6_product 50 = .ok (.aload_n 1, 1) := dk_43 (dk_at dksX6_product_2 4 rfl rfl)
theorem dX6_product_51 : decode cX6_product 51 = .ok (.areturn, 1) := dk_176 (dk_at dksX6_product_2 5 rfl rfl)
abbrev cX6_operand : ByteArray := prog_23_method_14_code
def yX6_operand : MethodName := ⟨RX6, "operand", "()LPointsForAll$Node;"⟩
def dkwX6_operand_11 : List UInt8 := [89, 29, 183, 0, 126, 176]
abbrev dktX6_operand_11 : List UInt8 := dkwX6_operand_11 ++ []
def dkwX6_operand_10 : List UInt8 := [42, 182, 0, 29, 16, 48, 16, 57, 184, 0, 120, 153, 0, 10, 42, 182, 0, 109, 167, 0, 11, 187, 0, 124]
abbrev dktX6_operand_10 : List UInt8 := dkwX6_operand_10 ++ dktX6_operand_11
def dkwX6_operand_9 : List UInt8 := [16, 48, 100, 62, 132, 2, 1, 42, 89, 180, 0, 19, 4, 96, 181, 0, 19, 167, 255, 211, 28, 153, 0, 17]
abbrev dktX6_operand_9 : List UInt8 := dkwX6_operand_9 ++ dktX6_operand_10
def dkwX6_operand_8 : List UInt8 := [42, 182, 0, 29, 16, 48, 16, 57, 184, 0, 120, 153, 0, 32, 16, 10, 29, 104, 42, 182, 0, 29, 96]
abbrev dktX6_operand_8 : List UInt8 := dkwX6_operand_8 ++ dktX6_operand_9
def dkwX6_operand_7 : List UInt8 := [181, 0, 19, 42, 89, 180, 0, 95, 4, 100, 181, 0, 95, 44, 176, 3, 61, 3, 62, 28, 7, 162, 0, 46]
abbrev dktX6_operand_7 : List UInt8 := dkwX6_operand_7 ++ dktX6_operand_8
def dkwX6_operand_6 : List UInt8 := [176, 42, 182, 0, 29, 16, 41, 159, 0, 8, 42, 182, 0, 109, 176, 42, 89, 180, 0, 19, 4, 96]
abbrev dktX6_operand_6 : List UInt8 := dkwX6_operand_6 ++ dktX6_operand_7
def dkwX6_operand_5 : List UInt8 := [182, 0, 105, 154, 0, 8, 42, 182, 0, 109, 176, 42, 182, 0, 50, 77, 42, 180, 0, 15, 155, 0, 5, 1]
abbrev dktX6_operand_5 : List UInt8 := dkwX6_operand_5 ++ dktX6_operand_6
def dkwX6_operand_4 : List UInt8 := [183, 0, 114, 167, 0, 11, 187, 0, 117, 89, 44, 183, 0, 119, 176, 27, 16, 40, 160, 0, 65, 42]
abbrev dktX6_operand_4 : List UInt8 := dkwX6_operand_4 ++ dktX6_operand_5
def dkwX6_operand_3 : List UInt8 := [181, 0, 95, 42, 180, 0, 15, 155, 0, 5, 1, 176, 27, 16, 33, 160, 0, 14, 187, 0, 112, 89, 44]
abbrev dktX6_operand_3 : List UInt8 := dkwX6_operand_3 ++ dktX6_operand_4
def dkwX6_operand_2 : List UInt8 := [182, 0, 105, 154, 0, 8, 42, 182, 0, 109, 176, 42, 182, 0, 90, 77, 42, 89, 180, 0, 95, 4, 100]
abbrev dktX6_operand_2 : List UInt8 := dkwX6_operand_2 ++ dktX6_operand_3
def dkwX6_operand_1 : List UInt8 := [187, 0, 100, 89, 27, 183, 0, 102, 176, 27, 16, 33, 159, 0, 9, 27, 16, 45, 160, 0, 65, 42]
abbrev dktX6_operand_1 : List UInt8 := dkwX6_operand_1 ++ dktX6_operand_2
def dkwX6_operand_0 : List UInt8 := [42, 182, 0, 29, 60, 42, 18, 98, 182, 0, 81, 153, 0, 22, 42, 89, 180, 0, 19, 4, 96, 181, 0, 19]
abbrev dktX6_operand_0 : List UInt8 := dkwX6_operand_0 ++ dktX6_operand_1
theorem dksX6_operand_0 : cX6_operand.data.toList.drop 0 = dktX6_operand_0 := by decide +kernel
theorem dksX6_operand_1 : cX6_operand.data.toList.drop 24 = dktX6_operand_1 := dk_seg dksX6_operand_0 24 rfl rfl
theorem dksX6_operand_2 : cX6_operand.data.toList.drop 46 = dktX6_operand_2 := dk_seg dksX6_operand_1 22 rfl rfl
theorem dksX6_operand_3 : cX6_operand.data.toList.drop 69 = dktX6_operand_3 := dk_seg dksX6_operand_2 23 rfl rfl
theorem dksX6_operand_4 : cX6_operand.data.toList.drop 92 = dktX6_operand_4 := dk_seg dksX6_operand_3 23 rfl rfl
theorem dksX6_operand_5 : cX6_operand.data.toList.drop 114 = dktX6_operand_5 := dk_seg dksX6_operand_4 22 rfl rfl
theorem dksX6_operand_6 : cX6_operand.data.toList.drop 138 = dktX6_operand_6 := dk_seg dksX6_operand_5 24 rfl rfl
theorem dksX6_operand_7 : cX6_operand.data.toList.drop 160 = dktX6_operand_7 := dk_seg dksX6_operand_6 22 rfl rfl
theorem dksX6_operand_8 : cX6_operand.data.toList.drop 184 = dktX6_operand_8 := dk_seg dksX6_operand_7 24 rfl rfl
theorem dksX6_operand_9 : cX6_operand.data.toList.drop 207 = dktX6_operand_9 := dk_seg dksX6_operand_8 23 rfl rfl
theorem dksX6_operand_10 : cX6_operand.data.toList.drop 231 = dktX6_operand_10 := dk_seg dksX6_operand_9 24 rfl rfl
theorem dksX6_operand_11 : cX6_operand.data.toList.drop 255 = dktX6_operand_11 := dk_seg dksX6_operand_10 24 rfl rfl
theorem dX6_operand_0 : decode cX6_operand 0 = .ok (.aload_n 0, 1) := dk_42 (dk_at dksX6_operand_0 0 rfl rfl)
theorem dX6_operand_1 : decode cX6_operand 1 = .ok (.invokevirtual 29, 3) := dk_182 0 29 (dk_at dksX6_operand_0 1 rfl rfl)
theorem dX6_operand_4 : decode cX6_operand 4 = .ok (.istore_n 1, 1) := dk_60 (dk_at dksX6_operand_0 4 rfl rfl)
theorem dX6_operand_5 : decode cX6_operand 5 = .ok (.aload_n 0, 1) := dk_42 (dk_at dksX6_operand_0 5 rfl rfl)
theorem dX6_operand_6 : decode cX6_operand 6 = .ok (.ldc 98, 2) := dk_18 98 (dk_at dksX6_operand_0 6 rfl rfl)
theorem dX6_operand_8 : decode cX6_operand 8 = .ok (.invokevirtual 81, 3) := dk_182 0 81 (dk_at dksX6_operand_0 8 rfl rfl)
theorem dX6_operand_11 : decode cX6_operand 11 = .ok (.ifCond .eq 22, 3) := dk_153 0 22 (dk_at dksX6_operand_0 11 rfl rfl)
theorem dX6_operand_14 : decode cX6_operand 14 = .ok (.aload_n 0, 1) := dk_42 (dk_at dksX6_operand_0 14 rfl rfl)
theorem dX6_operand_15 : decode cX6_operand 15 = .ok (.dup, 1) := dk_89 (dk_at dksX6_operand_0 15 rfl rfl)
theorem dX6_operand_16 : decode cX6_operand 16 = .ok (.getfield 19, 3) := dk_180 0 19 (dk_at dksX6_operand_0 16 rfl rfl)
theorem dX6_operand_19 : decode cX6_operand 19 = .ok (.iconst 1, 1) := dk_4 (dk_at dksX6_operand_0 19 rfl rfl)
theorem dX6_operand_20 : decode cX6_operand 20 = .ok (.iadd, 1) := dk_96 (dk_at dksX6_operand_0 20 rfl rfl)
theorem dX6_operand_21 : decode cX6_operand 21 = .ok (.putfield 19, 3) := dk_181 0 19 (dk_at dksX6_operand_0 21 rfl rfl)
theorem dX6_operand_24 : decode cX6_operand 24 = .ok (.new 100, 3) := dk_187 0 100 (dk_at dksX6_operand_1 0 rfl rfl)
theorem dX6_operand_27 : decode cX6_operand 27 = .ok (.dup, 1) := dk_89 (dk_at dksX6_operand_1 3 rfl rfl)
theorem dX6_operand_28 : decode cX6_operand 28 = .ok (.iload_n 1, 1) := dk_27 (dk_at dksX6_operand_1 4 rfl rfl)
theorem dX6_operand_29 : decode cX6_operand 29 = .ok (.invokespecial 102, 3) := dk_183 0 102 (dk_at dksX6_operand_1 5 rfl rfl)
theorem dX6_operand_32 : decode cX6_operand 32 = .ok (.areturn, 1) := dk_176 (dk_at dksX6_operand_1 8 rfl rfl)
theorem dX6_operand_33 : decode cX6_operand 33 = .ok (.iload_n 1, 1) := dk_27 (dk_at dksX6_operand_1 9 rfl rfl)
theorem dX6_operand_34 : decode cX6_operand 34 = .ok (.bipush 33, 2) := dk_16 33 (dk_at dksX6_operand_1 10 rfl rfl)
theorem dX6_operand_36 : decode cX6_operand 36 = .ok (.if_icmp .eq 9, 3) := dk_159 0 9 (dk_at dksX6_operand_1 12 rfl rfl)
theorem dX6_operand_39 : decode cX6_operand 39 = .ok (.iload_n 1, 1) := dk_27 (dk_at dksX6_operand_1 15 rfl rfl)
theorem dX6_operand_40 : decode cX6_operand 40 = .ok (.bipush 45, 2) := dk_16 45 (dk_at dksX6_operand_1 16 rfl rfl)
theorem dX6_operand_42 : decode cX6_operand 42 = .ok (.if_icmp .ne 65, 3) := dk_160 0 65 (dk_at dksX6_operand_1 18 rfl rfl)
theorem dX6_operand_45 : decode cX6_operand 45 = .ok (.aload_n 0, 1) := dk_42 (dk_at dksX6_operand_1 21 rfl rfl)
theorem dX6_operand_46 : decode cX6_operand 46 = .ok (.invokevirtual 105, 3) := dk_182 0 105 (dk_at dksX6_operand_2 0 rfl rfl)
theorem dX6_operand_49 : decode cX6_operand 49 = .ok (.ifCond .ne 8, 3) := dk_154 0 8 (dk_at dksX6_operand_2 3 rfl rfl)
theorem dX6_operand_52 : decode cX6_operand 52 = .ok (.aload_n 0, 1) := dk_42 (dk_at dksX6_operand_2 6 rfl rfl)
theorem dX6_operand_53 : decode cX6_operand 53 = .ok (.invokevirtual 109, 3) := dk_182 0 109 (dk_at dksX6_operand_2 7 rfl rfl)
theorem dX6_operand_56 : decode cX6_operand 56 = .ok (.areturn, 1) := dk_176 (dk_at dksX6_operand_2 10 rfl rfl)
theorem dX6_operand_57 : decode cX6_operand 57 = .ok (.aload_n 0, 1) := dk_42 (dk_at dksX6_operand_2 11 rfl rfl)
theorem dX6_operand_58 : decode cX6_operand 58 = .ok (.invokevirtual 90, 3) := dk_182 0 90 (dk_at dksX6_operand_2 12 rfl rfl)
theorem dX6_operand_61 : decode cX6_operand 61 = .ok (.astore_n 2, 1) := dk_77 (dk_at dksX6_operand_2 15 rfl rfl)
theorem dX6_operand_62 : decode cX6_operand 62 = .ok (.aload_n 0, 1) := dk_42 (dk_at dksX6_operand_2 16 rfl rfl)
theorem dX6_operand_63 : decode cX6_operand 63 = .ok (.dup, 1) := dk_89 (dk_at dksX6_operand_2 17 rfl rfl)
theorem dX6_operand_64 : decode cX6_operand 64 = .ok (.getfield 95, 3) := dk_180 0 95 (dk_at dksX6_operand_2 18 rfl rfl)
theorem dX6_operand_67 : decode cX6_operand 67 = .ok (.iconst 1, 1) := dk_4 (dk_at dksX6_operand_2 21 rfl rfl)
theorem dX6_operand_68 : decode cX6_operand 68 = .ok (.isub, 1) := dk_100 (dk_at dksX6_operand_2 22 rfl rfl)
theorem dX6_operand_69 : decode cX6_operand 69 = .ok (.putfield 95, 3) := dk_181 0 95 (dk_at dksX6_operand_3 0 rfl rfl)
theorem dX6_operand_72 : decode cX6_operand 72 = .ok (.aload_n 0, 1) := dk_42 (dk_at dksX6_operand_3 3 rfl rfl)
theorem dX6_operand_73 : decode cX6_operand 73 = .ok (.getfield 15, 3) := dk_180 0 15 (dk_at dksX6_operand_3 4 rfl rfl)
theorem dX6_operand_76 : decode cX6_operand 76 = .ok (.ifCond .lt 5, 3) := dk_155 0 5 (dk_at dksX6_operand_3 7 rfl rfl)
theorem dX6_operand_79 : decode cX6_operand 79 = .ok (.aconst_null, 1) := dk_1 (dk_at dksX6_operand_3 10 rfl rfl)
theorem dX6_operand_80 : decode cX6_operand 80 = .ok (.areturn, 1) := dk_176 (dk_at dksX6_operand_3 11 rfl rfl)
theorem dX6_operand_81 : decode cX6_operand 81 = .ok (.iload_n 1, 1) := dk_27 (dk_at dksX6_operand_3 12 rfl rfl)
theorem dX6_operand_82 : decode cX6_operand 82 = .ok (.bipush 33, 2) := dk_16 33 (dk_at dksX6_operand_3 13 rfl rfl)
theorem dX6_operand_84 : decode cX6_operand 84 = .ok (.if_icmp .ne 14, 3) := dk_160 0 14 (dk_at dksX6_operand_3 15 rfl rfl)
theorem dX6_operand_87 : decode cX6_operand 87 = .ok (.new 112, 3) := dk_187 0 112 (dk_at dksX6_operand_3 18 rfl rfl)
theorem dX6_operand_90 : decode cX6_operand 90 = .ok (.dup, 1) := dk_89 (dk_at dksX6_operand_3 21 rfl rfl)
theorem dX6_operand_91 : decode cX6_operand 91 = .ok (.aload_n 2, 1) := dk_44 (dk_at dksX6_operand_3 22 rfl rfl)
theorem dX6_operand_92 : decode cX6_operand 92 = .ok (.invokespecial 114, 3) := dk_183 0 114 (dk_at dksX6_operand_4 0 rfl rfl)
theorem dX6_operand_95 : decode cX6_operand 95 = .ok (.goto 11, 3) := dk_167 0 11 (dk_at dksX6_operand_4 3 rfl rfl)
theorem dX6_operand_98 : decode cX6_operand 98 = .ok (.new 117, 3) := dk_187 0 117 (dk_at dksX6_operand_4 6 rfl rfl)
theorem dX6_operand_101 : decode cX6_operand 101 = .ok (.dup, 1) := dk_89 (dk_at dksX6_operand_4 9 rfl rfl)
theorem dX6_operand_102 : decode cX6_operand 102 = .ok (.aload_n 2, 1) := dk_44 (dk_at dksX6_operand_4 10 rfl rfl)
theorem dX6_operand_103 : decode cX6_operand 103 = .ok (.invokespecial 119, 3) := dk_183 0 119 (dk_at dksX6_operand_4 11 rfl rfl)
theorem dX6_operand_106 : decode cX6_operand 106 = .ok (.areturn, 1) := dk_176 (dk_at dksX6_operand_4 14 rfl rfl)
theorem dX6_operand_107 : decode cX6_operand 107 = .ok (.iload_n 1, 1) := dk_27 (dk_at dksX6_operand_4 15 rfl rfl)
theorem dX6_operand_108 : decode cX6_operand 108 = .ok (.bipush 40, 2) := dk_16 40 (dk_at dksX6_operand_4 16 rfl rfl)
theorem dX6_operand_110 : decode cX6_operand 110 = .ok (.if_icmp .ne 65, 3) := dk_160 0 65 (dk_at dksX6_operand_4 18 rfl rfl)
theorem dX6_operand_113 : decode cX6_operand 113 = .ok (.aload_n 0, 1) := dk_42 (dk_at dksX6_operand_4 21 rfl rfl)
theorem dX6_operand_114 : decode cX6_operand 114 = .ok (.invokevirtual 105, 3) := dk_182 0 105 (dk_at dksX6_operand_5 0 rfl rfl)
theorem dX6_operand_117 : decode cX6_operand 117 = .ok (.ifCond .ne 8, 3) := dk_154 0 8 (dk_at dksX6_operand_5 3 rfl rfl)
theorem dX6_operand_120 : decode cX6_operand 120 = .ok (.aload_n 0, 1) := dk_42 (dk_at dksX6_operand_5 6 rfl rfl)
theorem dX6_operand_121 : decode cX6_operand 121 = .ok (.invokevirtual 109, 3) := dk_182 0 109 (dk_at dksX6_operand_5 7 rfl rfl)
theorem dX6_operand_124 : decode cX6_operand 124 = .ok (.areturn, 1) := dk_176 (dk_at dksX6_operand_5 10 rfl rfl)
theorem dX6_operand_125 : decode cX6_operand 125 = .ok (.aload_n 0, 1) := dk_42 (dk_at dksX6_operand_5 11 rfl rfl)
theorem dX6_operand_126 : decode cX6_operand 126 = .ok (.invokevirtual 50, 3) := dk_182 0 50 (dk_at dksX6_operand_5 12 rfl rfl)
theorem dX6_operand_129 : decode cX6_operand 129 = .ok (.astore_n 2, 1) := dk_77 (dk_at dksX6_operand_5 15 rfl rfl)
theorem dX6_operand_130 : decode cX6_operand 130 = .ok (.aload_n 0, 1) := dk_42 (dk_at dksX6_operand_5 16 rfl rfl)
theorem dX6_operand_131 : decode cX6_operand 131 = .ok (.getfield 15, 3) := dk_180 0 15 (dk_at dksX6_operand_5 17 rfl rfl)
theorem dX6_operand_134 : decode cX6_operand 134 = .ok (.ifCond .lt 5, 3) := dk_155 0 5 (dk_at dksX6_operand_5 20 rfl rfl)
theorem dX6_operand_137 : decode cX6_operand 137 = .ok (.aconst_null, 1) := dk_1 (dk_at dksX6_operand_5 23 rfl rfl)
theorem dX6_operand_138 : decode cX6_operand 138 = .ok (.areturn, 1) := dk_176 (dk_at dksX6_operand_6 0 rfl rfl)
theorem dX6_operand_139 : decode cX6_operand 139 = .ok (.aload_n 0, 1) := dk_42 (dk_at dksX6_operand_6 1 rfl rfl)
theorem dX6_operand_140 : decode cX6_operand 140 = .ok (.invokevirtual 29, 3) := dk_182 0 29 (dk_at dksX6_operand_6 2 rfl rfl)
theorem dX6_operand_143 : decode cX6_operand 143 = .ok (.bipush 41, 2) := dk_16 41 (dk_at dksX6_operand_6 5 rfl rfl)
theorem dX6_operand_145 : decode cX6_operand 145 = .ok (.if_icmp .eq 8, 3) := dk_159 0 8 (dk_at dksX6_operand_6 7 rfl rfl)
theorem dX6_operand_148 : decode cX6_operand 148 = .ok (.aload_n 0, 1) := dk_42 (dk_at dksX6_operand_6 10 rfl rfl)
theorem dX6_operand_149 : decode cX6_operand 149 = .ok (.invokevirtual 109, 3) := dk_182 0 109 (dk_at dksX6_operand_6 11 rfl rfl)
theorem dX6_operand_152 : decode cX6_operand 152 = .ok (.areturn, 1) := dk_176 (dk_at dksX6_operand_6 14 rfl rfl)
theorem dX6_operand_153 : decode cX6_operand 153 = .ok (.aload_n 0, 1) := dk_42 (dk_at dksX6_operand_6 15 rfl rfl)
theorem dX6_operand_154 : decode cX6_operand 154 = .ok (.dup, 1) := dk_89 (dk_at dksX6_operand_6 16 rfl rfl)
theorem dX6_operand_155 : decode cX6_operand 155 = .ok (.getfield 19, 3) := dk_180 0 19 (dk_at dksX6_operand_6 17 rfl rfl)
theorem dX6_operand_158 : decode cX6_operand 158 = .ok (.iconst 1, 1) := dk_4 (dk_at dksX6_operand_6 20 rfl rfl)
theorem dX6_operand_159 : decode cX6_operand 159 = .ok (.iadd, 1) := dk_96 (dk_at dksX6_operand_6 21 rfl rfl)
theorem dX6_operand_160 : decode cX6_operand 160 = .ok (.putfield 19, 3) := dk_181 0 19 (dk_at dksX6_operand_7 0 rfl rfl)
theorem dX6_operand_163 : decode cX6_operand 163 = .ok (.aload_n 0, 1) := dk_42 (dk_at dksX6_operand_7 3 rfl rfl)
theorem dX6_operand_164 : decode cX6_operand 164 = .ok (.dup, 1) := dk_89 (dk_at dksX6_operand_7 4 rfl rfl)
theorem dX6_operand_165 : decode cX6_operand 165 = .ok (.getfield 95, 3) := dk_180 0 95 (dk_at dksX6_operand_7 5 rfl rfl)
theorem dX6_operand_168 : decode cX6_operand 168 = .ok (.iconst 1, 1) := dk_4 (dk_at dksX6_operand_7 8 rfl rfl)
theorem dX6_operand_169 : decode cX6_operand 169 = .ok (.isub, 1) := dk_100 (dk_at dksX6_operand_7 9 rfl rfl)
theorem dX6_operand_170 : decode cX6_operand 170 = .ok (.putfield 95, 3) := dk_181 0 95 (dk_at dksX6_operand_7 10 rfl rfl)
theorem dX6_operand_173 : decode cX6_operand 173 = .ok (.aload_n 2, 1) := dk_44 (dk_at dksX6_operand_7 13 rfl rfl)
theorem dX6_operand_174 : decode cX6_operand 174 = .ok (.areturn, 1) := dk_176 (dk_at dksX6_operand_7 14 rfl rfl)
theorem dX6_operand_175 : decode cX6_operand 175 = .ok (.iconst 0, 1) := dk_3 (dk_at dksX6_operand_7 15 rfl rfl)
theorem dX6_operand_176 : decode cX6_operand 176 = .ok (.istore_n 2, 1) := dk_61 (dk_at dksX6_operand_7 16 rfl rfl)
theorem dX6_operand_177 : decode cX6_operand 177 = .ok (.iconst 0, 1) := dk_3 (dk_at dksX6_operand_7 17 rfl rfl)
theorem dX6_operand_178 : decode cX6_operand 178 = .ok (.istore_n 3, 1) := dk_62 (dk_at dksX6_operand_7 18 rfl rfl)
theorem dX6_operand_179 : decode cX6_operand 179 = .ok (.iload_n 2, 1) := dk_28 (dk_at dksX6_operand_7 19 rfl rfl)
theorem dX6_operand_180 : decode cX6_operand 180 = .ok (.iconst 4, 1) := dk_7 (dk_at dksX6_operand_7 20 rfl rfl)
theorem dX6_operand_181 : decode cX6_operand 181 = .ok (.if_icmp .ge 46, 3) := dk_162 0 46 (dk_at dksX6_operand_7 21 rfl rfl)
theorem dX6_operand_184 : decode cX6_operand 184 = .ok (.aload_n 0, 1) := dk_42 (dk_at dksX6_operand_8 0 rfl rfl)
theorem dX6_operand_185 : decode cX6_operand 185 = .ok (.invokevirtual 29, 3) := dk_182 0 29 (dk_at dksX6_operand_8 1 rfl rfl)
theorem dX6_operand_188 : decode cX6_operand 188 = .ok (.bipush 48, 2) := dk_16 48 (dk_at dksX6_operand_8 4 rfl rfl)
theorem dX6_operand_190 : decode cX6_operand 190 = .ok (.bipush 57, 2) := dk_16 57 (dk_at dksX6_operand_8 6 rfl rfl)
theorem dX6_operand_192 : decode cX6_operand 192 = .ok (.invokestatic 120, 3) := dk_184 0 120 (dk_at dksX6_operand_8 8 rfl rfl)
theorem dX6_operand_195 : decode cX6_operand 195 = .ok (.ifCond .eq 32, 3) := dk_153 0 32 (dk_at dksX6_operand_8 11 rfl rfl)
theorem dX6_operand_198 : decode cX6_operand 198 = .ok (.bipush 10, 2) := dk_16 10 (dk_at dksX6_operand_8 14 rfl rfl)
theorem dX6_operand_200 : decode cX6_operand 200 = .ok (.iload_n 3, 1) := dk_29 (dk_at dksX6_operand_8 16 rfl rfl)
theorem dX6_operand_201 : decode cX6_operand 201 = .ok (.imul, 1) := dk_104 (dk_at dksX6_operand_8 17 rfl rfl)
theorem dX6_operand_202 : decode cX6_operand 202 = .ok (.aload_n 0, 1) := dk_42 (dk_at dksX6_operand_8 18 rfl rfl)
theorem dX6_operand_203 : decode cX6_operand 203 = .ok (.invokevirtual 29, 3) := dk_182 0 29 (dk_at dksX6_operand_8 19 rfl rfl)
theorem dX6_operand_206 : decode cX6_operand 206 = .ok (.iadd, 1) := dk_96 (dk_at dksX6_operand_8 22 rfl rfl)
theorem dX6_operand_207 : decode cX6_operand 207 = .ok (.bipush 48, 2) := dk_16 48 (dk_at dksX6_operand_9 0 rfl rfl)
theorem dX6_operand_209 : decode cX6_operand 209 = .ok (.isub, 1) := dk_100 (dk_at dksX6_operand_9 2 rfl rfl)
theorem dX6_operand_210 : decode cX6_operand 210 = .ok (.istore_n 3, 1) := dk_62 (dk_at dksX6_operand_9 3 rfl rfl)
theorem dX6_operand_211 : decode cX6_operand 211 = .ok (.iinc 2 1, 3) := dk_132 2 1 (dk_at dksX6_operand_9 4 rfl rfl)
theorem dX6_operand_214 : decode cX6_operand 214 = .ok (.aload_n 0, 1) := dk_42 (dk_at dksX6_operand_9 7 rfl rfl)
theorem dX6_operand_215 : decode cX6_operand 215 = .ok (.dup, 1) := dk_89 (dk_at dksX6_operand_9 8 rfl rfl)
theorem dX6_operand_216 : decode cX6_operand 216 = .ok (.getfield 19, 3) := dk_180 0 19 (dk_at dksX6_operand_9 9 rfl rfl)
theorem dX6_operand_219 : decode cX6_operand 219 = .ok (.iconst 1, 1) := dk_4 (dk_at dksX6_operand_9 12 rfl rfl)
theorem dX6_operand_220 : decode cX6_operand 220 = .ok (.iadd, 1) := dk_96 (dk_at dksX6_operand_9 13 rfl rfl)
theorem dX6_operand_221 : decode cX6_operand 221 = .ok (.putfield 19, 3) := dk_181 0 19 (dk_at dksX6_operand_9 14 rfl rfl)
theorem dX6_operand_224 : decode cX6_operand 224 = .ok (.goto (-45), 3) := dk_167 255 211 (dk_at dksX6_operand_9 17 rfl rfl)
theorem dX6_operand_227 : decode cX6_operand 227 = .ok (.iload_n 2, 1) := dk_28 (dk_at dksX6_operand_9 20 rfl rfl)
theorem dX6_operand_228 : decode cX6_operand 228 = .ok (.ifCond .eq 17, 3) := dk_153 0 17 (dk_at dksX6_operand_9 21 rfl rfl)
theorem dX6_operand_231 : decode cX6_operand 231 = .ok (.aload_n 0, 1) := dk_42 (dk_at dksX6_operand_10 0 rfl rfl)
theorem dX6_operand_232 : decode cX6_operand 232 = .ok (.invokevirtual 29, 3) := dk_182 0 29 (dk_at dksX6_operand_10 1 rfl rfl)
theorem dX6_operand_235 : decode cX6_operand 235 = .ok (.bipush 48, 2) := dk_16 48 (dk_at dksX6_operand_10 4 rfl rfl)
theorem dX6_operand_237 : decode cX6_operand 237 = .ok (.bipush 57, 2) := dk_16 57 (dk_at dksX6_operand_10 6 rfl rfl)
theorem dX6_operand_239 : decode cX6_operand 239 = .ok (.invokestatic 120, 3) := dk_184 0 120 (dk_at dksX6_operand_10 8 rfl rfl)
theorem dX6_operand_242 : decode cX6_operand 242 = .ok (.ifCond .eq 10, 3) := dk_153 0 10 (dk_at dksX6_operand_10 11 rfl rfl)
theorem dX6_operand_245 : decode cX6_operand 245 = .ok (.aload_n 0, 1) := dk_42 (dk_at dksX6_operand_10 14 rfl rfl)
theorem dX6_operand_246 : decode cX6_operand 246 = .ok (.invokevirtual 109, 3) := dk_182 0 109 (dk_at dksX6_operand_10 15 rfl rfl)
theorem dX6_operand_249 : decode cX6_operand 249 = .ok (.goto 11, 3) := dk_167 0 11 (dk_at dksX6_operand_10 18 rfl rfl)
theorem dX6_operand_252 : decode cX6_operand 252 = .ok (.new 124, 3) := dk_187 0 124 (dk_at dksX6_operand_10 21 rfl rfl)
theorem dX6_operand_255 : decode cX6_operand 255 = .ok (.dup, 1) := dk_89 (dk_at dksX6_operand_11 0 rfl rfl)
theorem dX6_operand_256 : decode cX6_operand 256 = .ok (.iload_n 3, 1) := dk_29 (dk_at dksX6_operand_11 1 rfl rfl)
theorem dX6_operand_257 : decode cX6_operand 257 = .ok (.invokespecial 126, 3) := dk_183 0 126 (dk_at dksX6_operand_11 2 rfl rfl)
theorem dX6_operand_260 : decode cX6_operand 260 = .ok (.areturn, 1) := dk_176 (dk_at dksX6_operand_11 5 rfl rfl)
abbrev cX6_here : ByteArray := prog_23_method_2_code
def yX6_here : MethodName := ⟨RX6, "here", "()I"⟩
def dkwX6_here_1 : List UInt8 := [180, 0, 19, 51, 167, 0, 4, 2, 172]
abbrev dktX6_here_1 : List UInt8 := dkwX6_here_1 ++ []
def dkwX6_here_0 : List UInt8 := [42, 180, 0, 19, 42, 180, 0, 3, 180, 0, 22, 162, 0, 18, 42, 180, 0, 3, 180, 0, 25, 42]
abbrev dktX6_here_0 : List UInt8 := dkwX6_here_0 ++ dktX6_here_1
theorem dksX6_here_0 : cX6_here.data.toList.drop 0 = dktX6_here_0 := by decide +kernel
theorem dksX6_here_1 : cX6_here.data.toList.drop 22 = dktX6_here_1 := dk_seg dksX6_here_0 22 rfl rfl
theorem dX6_here_0 : decode cX6_here 0 = .ok (.aload_n 0, 1) := dk_42 (dk_at dksX6_here_0 0 rfl rfl)
theorem dX6_here_1 : decode cX6_here 1 = .ok (.getfield 19, 3) := dk_180 0 19 (dk_at dksX6_here_0 1 rfl rfl)
theorem dX6_here_4 : decode cX6_here 4 = .ok (.aload_n 0, 1) := dk_42 (dk_at dksX6_here_0 4 rfl rfl)
theorem dX6_here_5 : decode cX6_here 5 = .ok (.getfield 3, 3) := dk_180 0 3 (dk_at dksX6_here_0 5 rfl rfl)
theorem dX6_here_8 : decode cX6_here 8 = .ok (.getfield 22, 3) := dk_180 0 22 (dk_at dksX6_here_0 8 rfl rfl)
theorem dX6_here_11 : decode cX6_here 11 = .ok (.if_icmp .ge 18, 3) := dk_162 0 18 (dk_at dksX6_here_0 11 rfl rfl)
theorem dX6_here_14 : decode cX6_here 14 = .ok (.aload_n 0, 1) := dk_42 (dk_at dksX6_here_0 14 rfl rfl)
theorem dX6_here_15 : decode cX6_here 15 = .ok (.getfield 3, 3) := dk_180 0 3 (dk_at dksX6_here_0 15 rfl rfl)
theorem dX6_here_18 : decode cX6_here 18 = .ok (.getfield 25, 3) := dk_180 0 25 (dk_at dksX6_here_0 18 rfl rfl)
theorem dX6_here_21 : decode cX6_here 21 = .ok (.aload_n 0, 1) := dk_42 (dk_at dksX6_here_0 21 rfl rfl)
theorem dX6_here_22 : decode cX6_here 22 = .ok (.getfield 19, 3) := dk_180 0 19 (dk_at dksX6_here_1 0 rfl rfl)
theorem dX6_here_25 : decode cX6_here 25 = .ok (.baload, 1) := dk_51 (dk_at dksX6_here_1 3 rfl rfl)
theorem dX6_here_26 : decode cX6_here 26 = .ok (.goto 4, 3) := dk_167 0 4 (dk_at dksX6_here_1 4 rfl rfl)
theorem dX6_here_29 : decode cX6_here 29 = .ok (.iconst (-1), 1) := dk_2 (dk_at dksX6_here_1 7 rfl rfl)
theorem dX6_here_30 : decode cX6_here 30 = .ok (.ireturn, 1) := dk_172 (dk_at dksX6_here_1 8 rfl rfl)
abbrev cX6_isOne : ByteArray := prog_23_method_3_code
def yX6_isOne : MethodName := ⟨RX6, "isOne", "(Ljava/lang/String;)Z"⟩
def dkwX6_isOne_0 : List UInt8 := [42, 182, 0, 29, 155, 0, 18, 43, 42, 182, 0, 29, 182, 0, 33, 155, 0, 7, 4, 167, 0, 4, 3, 172]
abbrev dktX6_isOne_0 : List UInt8 := dkwX6_isOne_0 ++ []
theorem dksX6_isOne_0 : cX6_isOne.data.toList.drop 0 = dktX6_isOne_0 := by decide +kernel
theorem dX6_isOne_0 : decode cX6_isOne 0 = .ok (.aload_n 0, 1) := dk_42 (dk_at dksX6_isOne_0 0 rfl rfl)
theorem dX6_isOne_1 : decode cX6_isOne 1 = .ok (.invokevirtual 29, 3) := dk_182 0 29 (dk_at dksX6_isOne_0 1 rfl rfl)
theorem dX6_isOne_4 : decode cX6_isOne 4 = .ok (.ifCond .lt 18, 3) := dk_155 0 18 (dk_at dksX6_isOne_0 4 rfl rfl)
theorem dX6_isOne_7 : decode cX6_isOne 7 = .ok (.aload_n 1, 1) := dk_43 (dk_at dksX6_isOne_0 7 rfl rfl)
theorem dX6_isOne_8 : decode cX6_isOne 8 = .ok (.aload_n 0, 1) := dk_42 (dk_at dksX6_isOne_0 8 rfl rfl)
theorem dX6_isOne_9 : decode cX6_isOne 9 = .ok (.invokevirtual 29, 3) := dk_182 0 29 (dk_at dksX6_isOne_0 9 rfl rfl)
theorem dX6_isOne_12 : decode cX6_isOne 12 = .ok (.invokevirtual 33, 3) := dk_182 0 33 (dk_at dksX6_isOne_0 12 rfl rfl)
theorem dX6_isOne_15 : decode cX6_isOne 15 = .ok (.ifCond .lt 7, 3) := dk_155 0 7 (dk_at dksX6_isOne_0 15 rfl rfl)
theorem dX6_isOne_18 : decode cX6_isOne 18 = .ok (.iconst 1, 1) := dk_4 (dk_at dksX6_isOne_0 18 rfl rfl)
theorem dX6_isOne_19 : decode cX6_isOne 19 = .ok (.goto 4, 3) := dk_167 0 4 (dk_at dksX6_isOne_0 19 rfl rfl)
theorem dX6_isOne_22 : decode cX6_isOne 22 = .ok (.iconst 0, 1) := dk_3 (dk_at dksX6_isOne_0 22 rfl rfl)
theorem dX6_isOne_23 : decode cX6_isOne 23 = .ok (.ireturn, 1) := dk_172 (dk_at dksX6_isOne_0 23 rfl rfl)
abbrev cX6_opens : ByteArray := prog_23_method_13_code
def yX6_opens : MethodName := ⟨RX6, "opens", "()Z"⟩
def dkwX6_opens_1 : List UInt8 := [180, 0, 19, 4, 96, 181, 0, 19, 4, 172]
abbrev dktX6_opens_1 : List UInt8 := dkwX6_opens_1 ++ []
def dkwX6_opens_0 : List UInt8 := [42, 180, 0, 95, 16, 6, 160, 0, 5, 3, 172, 42, 89, 180, 0, 95, 4, 96, 181, 0, 95, 42, 89]
abbrev dktX6_opens_0 : List UInt8 := dkwX6_opens_0 ++ dktX6_opens_1
theorem dksX6_opens_0 : cX6_opens.data.toList.drop 0 = dktX6_opens_0 := by decide +kernel
theorem dksX6_opens_1 : cX6_opens.data.toList.drop 23 = dktX6_opens_1 := dk_seg dksX6_opens_0 23 rfl rfl
theorem dX6_opens_0 : decode cX6_opens 0 = .ok (.aload_n 0, 1) := dk_42 (dk_at dksX6_opens_0 0 rfl rfl)
theorem dX6_opens_1 : decode cX6_opens 1 = .ok (.getfield 95, 3) := dk_180 0 95 (dk_at dksX6_opens_0 1 rfl rfl)
theorem dX6_opens_4 : decode cX6_opens 4 = .ok (.bipush 6, 2) := dk_16 6 (dk_at dksX6_opens_0 4 rfl rfl)
theorem dX6_opens_6 : decode cX6_opens 6 = .ok (.if_icmp .ne 5, 3) := dk_160 0 5 (dk_at dksX6_opens_0 6 rfl rfl)
theorem dX6_opens_9 : decode cX6_opens 9 = .ok (.iconst 0, 1) := dk_3 (dk_at dksX6_opens_0 9 rfl rfl)
theorem dX6_opens_10 : decode cX6_opens 10 = .ok (.ireturn, 1) := dk_172 (dk_at dksX6_opens_0 10 rfl rfl)
theorem dX6_opens_11 : decode cX6_opens 11 = .ok (.aload_n 0, 1) := dk_42 (dk_at dksX6_opens_0 11 rfl rfl)
theorem dX6_opens_12 : decode cX6_opens 12 = .ok (.dup, 1) := dk_89 (dk_at dksX6_opens_0 12 rfl rfl)
theorem dX6_opens_13 : decode cX6_opens 13 = .ok (.getfield 95, 3) := dk_180 0 95 (dk_at dksX6_opens_0 13 rfl rfl)
theorem dX6_opens_16 : decode cX6_opens 16 = .ok (.iconst 1, 1) := dk_4 (dk_at dksX6_opens_0 16 rfl rfl)
theorem dX6_opens_17 : decode cX6_opens 17 = .ok (.iadd, 1) := dk_96 (dk_at dksX6_opens_0 17 rfl rfl)
theorem dX6_opens_18 : decode cX6_opens 18 = .ok (.putfield 95, 3) := dk_181 0 95 (dk_at dksX6_opens_0 18 rfl rfl)
theorem dX6_opens_21 : decode cX6_opens 21 = .ok (.aload_n 0, 1) := dk_42 (dk_at dksX6_opens_0 21 rfl rfl)
theorem dX6_opens_22 : decode cX6_opens 22 = .ok (.dup, 1) := dk_89 (dk_at dksX6_opens_0 22 rfl rfl)
theorem dX6_opens_23 : decode cX6_opens 23 = .ok (.getfield 19, 3) := dk_180 0 19 (dk_at dksX6_opens_1 0 rfl rfl)
theorem dX6_opens_26 : decode cX6_opens 26 = .ok (.iconst 1, 1) := dk_4 (dk_at dksX6_opens_1 3 rfl rfl)
theorem dX6_opens_27 : decode cX6_opens 27 = .ok (.iadd, 1) := dk_96 (dk_at dksX6_opens_1 4 rfl rfl)
theorem dX6_opens_28 : decode cX6_opens 28 = .ok (.putfield 19, 3) := dk_181 0 19 (dk_at dksX6_opens_1 5 rfl rfl)
theorem dX6_opens_31 : decode cX6_opens 31 = .ok (.iconst 1, 1) := dk_4 (dk_at dksX6_opens_1 8 rfl rfl)
theorem dX6_opens_32 : decode cX6_opens 32 = .ok (.ireturn, 1) := dk_172 (dk_at dksX6_opens_1 9 rfl rfl)
abbrev cX6_wrong : ByteArray := prog_23_method_4_code
def yX6_wrong : MethodName := ⟨RX6, "wrong", "()LPointsForAll$Node;"⟩
def dkwX6_wrong_0 : List UInt8 := [42, 180, 0, 15, 156, 0, 11, 42, 42, 180, 0, 19, 181, 0, 15, 1, 176]
abbrev dktX6_wrong_0 : List UInt8 := dkwX6_wrong_0 ++ []
theorem dksX6_wrong_0 : cX6_wrong.data.toList.drop 0 = dktX6_wrong_0 := by decide +kernel
theorem dX6_wrong_0 : decode cX6_wrong 0 = .ok (.aload_n 0, 1) := dk_42 (dk_at dksX6_wrong_0 0 rfl rfl)
theorem dX6_wrong_1 : decode cX6_wrong 1 = .ok (.getfield 15, 3) := dk_180 0 15 (dk_at dksX6_wrong_0 1 rfl rfl)
theorem dX6_wrong_4 : decode cX6_wrong 4 = .ok (.ifCond .ge 11, 3) := dk_156 0 11 (dk_at dksX6_wrong_0 4 rfl rfl)
theorem dX6_wrong_7 : decode cX6_wrong 7 = .ok (.aload_n 0, 1) := dk_42 (dk_at dksX6_wrong_0 7 rfl rfl)
theorem dX6_wrong_8 : decode cX6_wrong 8 = .ok (.aload_n 0, 1) := dk_42 (dk_at dksX6_wrong_0 8 rfl rfl)
theorem dX6_wrong_9 : decode cX6_wrong 9 = .ok (.getfield 19, 3) := dk_180 0 19 (dk_at dksX6_wrong_0 9 rfl rfl)
theorem dX6_wrong_12 : decode cX6_wrong 12 = .ok (.putfield 15, 3) := dk_181 0 15 (dk_at dksX6_wrong_0 12 rfl rfl)
theorem dX6_wrong_15 : decode cX6_wrong 15 = .ok (.aconst_null, 1) := dk_1 (dk_at dksX6_wrong_0 15 rfl rfl)
theorem dX6_wrong_16 : decode cX6_wrong 16 = .ok (.areturn, 1) := dk_176 (dk_at dksX6_wrong_0 16 rfl rfl)
abbrev cX6_joined : ByteArray := prog_23_method_7_code
def yX6_joined : MethodName := ⟨RX6, "joined", "(ILPointsForAll$Node;LPointsForAll$Node;)LPointsForAll$Node;"⟩
def dkwX6_joined_0 : List UInt8 := [42, 180, 0, 15, 155, 0, 7, 1, 167, 0, 13, 187, 0, 61, 89, 27, 44, 45, 183, 0, 63, 176]
abbrev dktX6_joined_0 : List UInt8 := dkwX6_joined_0 ++ []
theorem dksX6_joined_0 : cX6_joined.data.toList.drop 0 = dktX6_joined_0 := by decide +kernel
theorem dX6_joined_0 : decode cX6_joined 0 = .ok (.aload_n 0, 1) := dk_42 (dk_at dksX6_joined_0 0 rfl rfl)
theorem dX6_joined_1 : decode cX6_joined 1 = .ok (.getfield 15, 3) := dk_180 0 15 (dk_at dksX6_joined_0 1 rfl rfl)
theorem dX6_joined_4 : decode cX6_joined 4 = .ok (.ifCond .lt 7, 3) := dk_155 0 7 (dk_at dksX6_joined_0 4 rfl rfl)
theorem dX6_joined_7 : decode cX6_joined 7 = .ok (.aconst_null, 1) := dk_1 (dk_at dksX6_joined_0 7 rfl rfl)
theorem dX6_joined_8 : decode cX6_joined 8 = .ok (.goto 13, 3) := dk_167 0 13 (dk_at dksX6_joined_0 8 rfl rfl)
theorem dX6_joined_11 : decode cX6_joined 11 = .ok (.new 61, 3) := dk_187 0 61 (dk_at dksX6_joined_0 11 rfl rfl)
theorem dX6_joined_14 : decode cX6_joined 14 = .ok (.dup, 1) := dk_89 (dk_at dksX6_joined_0 14 rfl rfl)
theorem dX6_joined_15 : decode cX6_joined 15 = .ok (.iload_n 1, 1) := dk_27 (dk_at dksX6_joined_0 15 rfl rfl)
theorem dX6_joined_16 : decode cX6_joined 16 = .ok (.aload_n 2, 1) := dk_44 (dk_at dksX6_joined_0 16 rfl rfl)
theorem dX6_joined_17 : decode cX6_joined 17 = .ok (.aload_n 3, 1) := dk_45 (dk_at dksX6_joined_0 17 rfl rfl)
theorem dX6_joined_18 : decode cX6_joined 18 = .ok (.invokespecial 63, 3) := dk_183 0 63 (dk_at dksX6_joined_0 18 rfl rfl)
theorem dX6_joined_21 : decode cX6_joined 21 = .ok (.areturn, 1) := dk_176 (dk_at dksX6_joined_0 21 rfl rfl)
theorem q96 : (Jvm.Cond.initialized "PointsForAll$Reader") ∈ lw_all := lw_g (lw_at lw_m1 15 rfl) rfl
theorem q169 : (Jvm.Cond.fieldLinkNest "PointsForAll$Reader" (25 : Nat) "PointsForAll" "tape" "[B" "PointsForAll") ∈ lw_tbl := lw_at lw_m1 88 rfl
theorem q170 : (Jvm.Cond.fieldLinkNest "PointsForAll$Reader" (22 : Nat) "PointsForAll" "taped" "I" "PointsForAll") ∈ lw_tbl := lw_at lw_m1 89 rfl
theorem q534 : (Jvm.Cond.instantiable "PointsForAll$Reader" (4 : Nat)) ∈ lw_all := lw_g (lw_at lw_m2 213 rfl) rfl
theorem q536 : (Jvm.Cond.instanceMethod ({ cls := "PointsForAll$Reader", name := "<init>", desc := "(LPointsForAll;)V" } : Jvm.MethodName)) ∈ lw_all := lw_g (lw_at lw_m2 215 rfl) rfl
theorem q537 : (Jvm.Cond.code ({ cls := "PointsForAll$Reader", name := "<init>", desc := "(LPointsForAll;)V" } : Jvm.MethodName) prog_23_method_1_code (2 : Nat) (Option.none : Option Jvm.ClassFile.FieldType)) ∈ lw_all := lw_g (lw_at lw_m2 216 rfl) rfl
theorem q538 : (Jvm.Cond.methodLink "PointsForAll$Reader" (9 : Nat) ({ cls := "java/lang/Object", name := "<init>", desc := "()V" } : Jvm.MethodName)) ∈ lw_all := lw_g (lw_at lw_m2 217 rfl) rfl
theorem q539 : (Jvm.Cond.fieldLink "PointsForAll$Reader" (19 : Nat) "PointsForAll$Reader" "at" "I") ∈ lw_all := lw_g (lw_at lw_m2 218 rfl) rfl
theorem q540 : (Jvm.Cond.fieldLink "PointsForAll$Reader" (15 : Nat) "PointsForAll$Reader" "fault" "I") ∈ lw_all := lw_g (lw_at lw_m2 219 rfl) rfl
theorem q542 : (Jvm.Cond.fieldLink "PointsForAll$Reader" (95 : Nat) "PointsForAll$Reader" "open" "I") ∈ lw_all := lw_g (lw_at lw_m2 221 rfl) rfl
theorem q543 : (Jvm.Cond.fieldLink "PointsForAll$Reader" (3 : Nat) "PointsForAll$Reader" "this$0" "LPointsForAll;") ∈ lw_all := lw_g (lw_at lw_m2 222 rfl) rfl
theorem q544 : (Jvm.Cond.lays "PointsForAll$Reader" "PointsForAll$Reader" "at" "I") ∈ lw_all := lw_g (lw_at lw_m2 223 rfl) rfl
theorem q545 : (Jvm.Cond.soleField "PointsForAll$Reader" "at") ∈ lw_all := lw_g (lw_at lw_m2 224 rfl) rfl
theorem q546 : (Jvm.Cond.lays "PointsForAll$Reader" "PointsForAll$Reader" "fault" "I") ∈ lw_all := lw_g (lw_at lw_m2 225 rfl) rfl
theorem q547 : (Jvm.Cond.soleField "PointsForAll$Reader" "fault") ∈ lw_all := lw_g (lw_at lw_m2 226 rfl) rfl
theorem q548 : (Jvm.Cond.lays "PointsForAll$Reader" "PointsForAll$Reader" "open" "I") ∈ lw_all := lw_g (lw_at lw_m2 227 rfl) rfl
theorem q549 : (Jvm.Cond.soleField "PointsForAll$Reader" "open") ∈ lw_all := lw_g (lw_at lw_m2 228 rfl) rfl
theorem q550 : (Jvm.Cond.laysFinal "PointsForAll$Reader" "PointsForAll$Reader" "this$0" "LPointsForAll;") ∈ lw_all := lw_g (lw_at lw_m2 229 rfl) rfl
theorem q551 : (Jvm.Cond.soleField "PointsForAll$Reader" "this$0") ∈ lw_all := lw_g (lw_at lw_m2 230 rfl) rfl
theorem q552 : (Jvm.Cond.superclass "PointsForAll$Reader" "java/lang/Object") ∈ lw_all := lw_g (lw_at lw_m2 231 rfl) rfl
theorem q554 : (Jvm.Cond.instanceMethod ({ cls := "PointsForAll$Reader", name := "lines", desc := "()LPointsForAll$Line;" } : Jvm.MethodName)) ∈ lw_all := lw_g (lw_at lw_m2 233 rfl) rfl
theorem q555 : (Jvm.Cond.selects "PointsForAll$Reader" ({ cls := "PointsForAll$Reader", name := "lines", desc := "()LPointsForAll$Line;" } : Jvm.MethodName) ({ cls := "PointsForAll$Reader", name := "lines", desc := "()LPointsForAll$Line;" } : Jvm.MethodName)) ∈ lw_all := lw_g (lw_at lw_m2 234 rfl) rfl
theorem q556 : (Jvm.Cond.code ({ cls := "PointsForAll$Reader", name := "lines", desc := "()LPointsForAll$Line;" } : Jvm.MethodName) prog_23_method_5_code (3 : Nat) (Option.some (Jvm.ClassFile.FieldType.object "PointsForAll$Line"))) ∈ lw_all := lw_g (lw_at lw_m2 235 rfl) rfl
theorem q557 : (Jvm.Cond.methodLink "PointsForAll$Reader" (39 : Nat) ({ cls := "PointsForAll$Reader", name := "line", desc := "()LPointsForAll$Line;" } : Jvm.MethodName)) ∈ lw_all := lw_g (lw_at lw_m2 236 rfl) rfl
theorem q558 : (Jvm.Cond.privateMethod ({ cls := "PointsForAll$Reader", name := "line", desc := "()LPointsForAll$Line;" } : Jvm.MethodName)) ∈ lw_tbl := lw_at lw_m2 237 rfl
theorem q559 : (Jvm.Cond.instanceMethod ({ cls := "PointsForAll$Reader", name := "line", desc := "()LPointsForAll$Line;" } : Jvm.MethodName)) ∈ lw_all := lw_g (lw_at lw_m2 238 rfl) rfl
theorem q560 : (Jvm.Cond.code ({ cls := "PointsForAll$Reader", name := "line", desc := "()LPointsForAll$Line;" } : Jvm.MethodName) prog_23_method_6_code (2 : Nat) (Option.some (Jvm.ClassFile.FieldType.object "PointsForAll$Line"))) ∈ lw_all := lw_g (lw_at lw_m2 239 rfl) rfl
theorem q561 : (Jvm.Cond.classLink "PointsForAll$Reader" (44 : Nat) "PointsForAll$Line") ∈ lw_all := lw_g (lw_at lw_m3 0 rfl) rfl
theorem q563 : (Jvm.Cond.methodLinkNest "PointsForAll$Reader" (49 : Nat) ({ cls := "PointsForAll$Line", name := "<init>", desc := "()V" } : Jvm.MethodName) "PointsForAll") ∈ lw_tbl := lw_at lw_m3 2 rfl
theorem q567 : (Jvm.Cond.fieldLinkNest "PointsForAll$Reader" (58 : Nat) "PointsForAll$Line" "test" "LPointsForAll$Node;" "PointsForAll") ∈ lw_tbl := lw_at lw_m3 6 rfl
theorem q569 : (Jvm.Cond.fieldLinkNest "PointsForAll$Reader" (54 : Nat) "PointsForAll$Line" "gives" "LPointsForAll$Node;" "PointsForAll") ∈ lw_tbl := lw_at lw_m3 8 rfl
theorem q571 : (Jvm.Cond.fieldLinkNest "PointsForAll$Reader" (43 : Nat) "PointsForAll$Line" "next" "LPointsForAll$Line;" "PointsForAll") ∈ lw_tbl := lw_at lw_m3 10 rfl
theorem q580 : (Jvm.Cond.methodLink "PointsForAll$Reader" (50 : Nat) ({ cls := "PointsForAll$Reader", name := "either", desc := "()LPointsForAll$Node;" } : Jvm.MethodName)) ∈ lw_all := lw_g (lw_at lw_m3 19 rfl) rfl
theorem q581 : (Jvm.Cond.privateMethod ({ cls := "PointsForAll$Reader", name := "either", desc := "()LPointsForAll$Node;" } : Jvm.MethodName)) ∈ lw_tbl := lw_at lw_m3 20 rfl
theorem q582 : (Jvm.Cond.instanceMethod ({ cls := "PointsForAll$Reader", name := "either", desc := "()LPointsForAll$Node;" } : Jvm.MethodName)) ∈ lw_all := lw_g (lw_at lw_m3 21 rfl) rfl
theorem q583 : (Jvm.Cond.code ({ cls := "PointsForAll$Reader", name := "either", desc := "()LPointsForAll$Node;" } : Jvm.MethodName) prog_23_method_8_code (2 : Nat) (Option.some (Jvm.ClassFile.FieldType.object "PointsForAll$Node"))) ∈ lw_all := lw_g (lw_at lw_m3 22 rfl) rfl
theorem q584 : (Jvm.Cond.methodLink "PointsForAll$Reader" (66 : Nat) ({ cls := "PointsForAll$Reader", name := "all", desc := "()LPointsForAll$Node;" } : Jvm.MethodName)) ∈ lw_all := lw_g (lw_at lw_m3 23 rfl) rfl
theorem q585 : (Jvm.Cond.privateMethod ({ cls := "PointsForAll$Reader", name := "all", desc := "()LPointsForAll$Node;" } : Jvm.MethodName)) ∈ lw_tbl := lw_at lw_m3 24 rfl
theorem q586 : (Jvm.Cond.instanceMethod ({ cls := "PointsForAll$Reader", name := "all", desc := "()LPointsForAll$Node;" } : Jvm.MethodName)) ∈ lw_all := lw_g (lw_at lw_m3 25 rfl) rfl
theorem q587 : (Jvm.Cond.code ({ cls := "PointsForAll$Reader", name := "all", desc := "()LPointsForAll$Node;" } : Jvm.MethodName) prog_23_method_9_code (2 : Nat) (Option.some (Jvm.ClassFile.FieldType.object "PointsForAll$Node"))) ∈ lw_all := lw_g (lw_at lw_m3 26 rfl) rfl
theorem q588 : (Jvm.Cond.methodLink "PointsForAll$Reader" (73 : Nat) ({ cls := "PointsForAll$Reader", name := "compared", desc := "()LPointsForAll$Node;" } : Jvm.MethodName)) ∈ lw_all := lw_g (lw_at lw_m3 27 rfl) rfl
theorem q589 : (Jvm.Cond.privateMethod ({ cls := "PointsForAll$Reader", name := "compared", desc := "()LPointsForAll$Node;" } : Jvm.MethodName)) ∈ lw_tbl := lw_at lw_m3 28 rfl
theorem q590 : (Jvm.Cond.instanceMethod ({ cls := "PointsForAll$Reader", name := "compared", desc := "()LPointsForAll$Node;" } : Jvm.MethodName)) ∈ lw_all := lw_g (lw_at lw_m3 29 rfl) rfl
theorem q591 : (Jvm.Cond.code ({ cls := "PointsForAll$Reader", name := "compared", desc := "()LPointsForAll$Node;" } : Jvm.MethodName) prog_23_method_10_code (3 : Nat) (Option.some (Jvm.ClassFile.FieldType.object "PointsForAll$Node"))) ∈ lw_all := lw_g (lw_at lw_m3 30 rfl) rfl
theorem q592 : (Jvm.Cond.methodLink "PointsForAll$Reader" (76 : Nat) ({ cls := "PointsForAll$Reader", name := "sum", desc := "()LPointsForAll$Node;" } : Jvm.MethodName)) ∈ lw_all := lw_g (lw_at lw_m3 31 rfl) rfl
theorem q593 : (Jvm.Cond.privateMethod ({ cls := "PointsForAll$Reader", name := "sum", desc := "()LPointsForAll$Node;" } : Jvm.MethodName)) ∈ lw_tbl := lw_at lw_m3 32 rfl
theorem q594 : (Jvm.Cond.instanceMethod ({ cls := "PointsForAll$Reader", name := "sum", desc := "()LPointsForAll$Node;" } : Jvm.MethodName)) ∈ lw_all := lw_g (lw_at lw_m3 33 rfl) rfl
theorem q595 : (Jvm.Cond.code ({ cls := "PointsForAll$Reader", name := "sum", desc := "()LPointsForAll$Node;" } : Jvm.MethodName) prog_23_method_11_code (3 : Nat) (Option.some (Jvm.ClassFile.FieldType.object "PointsForAll$Node"))) ∈ lw_all := lw_g (lw_at lw_m3 34 rfl) rfl
theorem q596 : (Jvm.Cond.methodLink "PointsForAll$Reader" (85 : Nat) ({ cls := "PointsForAll$Reader", name := "product", desc := "()LPointsForAll$Node;" } : Jvm.MethodName)) ∈ lw_all := lw_g (lw_at lw_m3 35 rfl) rfl
theorem q597 : (Jvm.Cond.privateMethod ({ cls := "PointsForAll$Reader", name := "product", desc := "()LPointsForAll$Node;" } : Jvm.MethodName)) ∈ lw_tbl := lw_at lw_m3 36 rfl
theorem q598 : (Jvm.Cond.instanceMethod ({ cls := "PointsForAll$Reader", name := "product", desc := "()LPointsForAll$Node;" } : Jvm.MethodName)) ∈ lw_all := lw_g (lw_at lw_m3 37 rfl) rfl
theorem q599 : (Jvm.Cond.code ({ cls := "PointsForAll$Reader", name := "product", desc := "()LPointsForAll$Node;" } : Jvm.MethodName) prog_23_method_12_code (3 : Nat) (Option.some (Jvm.ClassFile.FieldType.object "PointsForAll$Node"))) ∈ lw_all := lw_g (lw_at lw_m3 38 rfl) rfl
theorem q600 : (Jvm.Cond.methodLink "PointsForAll$Reader" (90 : Nat) ({ cls := "PointsForAll$Reader", name := "operand", desc := "()LPointsForAll$Node;" } : Jvm.MethodName)) ∈ lw_all := lw_g (lw_at lw_m3 39 rfl) rfl
theorem q601 : (Jvm.Cond.privateMethod ({ cls := "PointsForAll$Reader", name := "operand", desc := "()LPointsForAll$Node;" } : Jvm.MethodName)) ∈ lw_tbl := lw_at lw_m3 40 rfl
theorem q602 : (Jvm.Cond.instanceMethod ({ cls := "PointsForAll$Reader", name := "operand", desc := "()LPointsForAll$Node;" } : Jvm.MethodName)) ∈ lw_all := lw_g (lw_at lw_m3 41 rfl) rfl
theorem q603 : (Jvm.Cond.code ({ cls := "PointsForAll$Reader", name := "operand", desc := "()LPointsForAll$Node;" } : Jvm.MethodName) prog_23_method_14_code (4 : Nat) (Option.some (Jvm.ClassFile.FieldType.object "PointsForAll$Node"))) ∈ lw_all := lw_g (lw_at lw_m3 42 rfl) rfl
theorem q604 : (Jvm.Cond.methodLink "PointsForAll$Reader" (29 : Nat) ({ cls := "PointsForAll$Reader", name := "here", desc := "()I" } : Jvm.MethodName)) ∈ lw_all := lw_g (lw_at lw_m3 43 rfl) rfl
theorem q605 : (Jvm.Cond.privateMethod ({ cls := "PointsForAll$Reader", name := "here", desc := "()I" } : Jvm.MethodName)) ∈ lw_tbl := lw_at lw_m3 44 rfl
theorem q606 : (Jvm.Cond.instanceMethod ({ cls := "PointsForAll$Reader", name := "here", desc := "()I" } : Jvm.MethodName)) ∈ lw_all := lw_g (lw_at lw_m3 45 rfl) rfl
theorem q607 : (Jvm.Cond.code ({ cls := "PointsForAll$Reader", name := "here", desc := "()I" } : Jvm.MethodName) prog_23_method_2_code (1 : Nat) (Option.some Jvm.ClassFile.FieldType.int)) ∈ lw_all := lw_g (lw_at lw_m3 46 rfl) rfl
theorem q608 : (Jvm.Cond.stringRef "PointsForAll$Reader" (98 : Nat) "tkcpsbn") ∈ lw_tbl := lw_at lw_m3 47 rfl
theorem q609 : (Jvm.Cond.methodLink "PointsForAll$Reader" (81 : Nat) ({ cls := "PointsForAll$Reader", name := "isOne", desc := "(Ljava/lang/String;)Z" } : Jvm.MethodName)) ∈ lw_all := lw_g (lw_at lw_m3 48 rfl) rfl
theorem q610 : (Jvm.Cond.privateMethod ({ cls := "PointsForAll$Reader", name := "isOne", desc := "(Ljava/lang/String;)Z" } : Jvm.MethodName)) ∈ lw_tbl := lw_at lw_m3 49 rfl
theorem q611 : (Jvm.Cond.instanceMethod ({ cls := "PointsForAll$Reader", name := "isOne", desc := "(Ljava/lang/String;)Z" } : Jvm.MethodName)) ∈ lw_all := lw_g (lw_at lw_m3 50 rfl) rfl
theorem q612 : (Jvm.Cond.code ({ cls := "PointsForAll$Reader", name := "isOne", desc := "(Ljava/lang/String;)Z" } : Jvm.MethodName) prog_23_method_3_code (2 : Nat) (Option.some Jvm.ClassFile.FieldType.boolean)) ∈ lw_all := lw_g (lw_at lw_m3 51 rfl) rfl
theorem q613 : (Jvm.Cond.methodLink "PointsForAll$Reader" (33 : Nat) ({ cls := "java/lang/String", name := "indexOf", desc := "(I)I" } : Jvm.MethodName)) ∈ lw_all := lw_g (lw_at lw_m3 52 rfl) rfl
theorem q699 : (Jvm.Cond.classLink "PointsForAll$Reader" (100 : Nat) "PointsForAll$Name") ∈ lw_all := lw_g (lw_at lw_m3 138 rfl) rfl
theorem q701 : (Jvm.Cond.methodLink "PointsForAll$Reader" (102 : Nat) ({ cls := "PointsForAll$Name", name := "<init>", desc := "(I)V" } : Jvm.MethodName)) ∈ lw_all := lw_g (lw_at lw_m3 140 rfl) rfl
theorem q712 : (Jvm.Cond.methodLink "PointsForAll$Reader" (105 : Nat) ({ cls := "PointsForAll$Reader", name := "opens", desc := "()Z" } : Jvm.MethodName)) ∈ lw_all := lw_g (lw_at lw_m3 151 rfl) rfl
theorem q713 : (Jvm.Cond.privateMethod ({ cls := "PointsForAll$Reader", name := "opens", desc := "()Z" } : Jvm.MethodName)) ∈ lw_tbl := lw_at lw_m3 152 rfl
theorem q714 : (Jvm.Cond.instanceMethod ({ cls := "PointsForAll$Reader", name := "opens", desc := "()Z" } : Jvm.MethodName)) ∈ lw_all := lw_g (lw_at lw_m3 153 rfl) rfl
theorem q715 : (Jvm.Cond.code ({ cls := "PointsForAll$Reader", name := "opens", desc := "()Z" } : Jvm.MethodName) prog_23_method_13_code (1 : Nat) (Option.some Jvm.ClassFile.FieldType.boolean)) ∈ lw_all := lw_g (lw_at lw_m3 154 rfl) rfl
theorem q716 : (Jvm.Cond.methodLink "PointsForAll$Reader" (109 : Nat) ({ cls := "PointsForAll$Reader", name := "wrong", desc := "()LPointsForAll$Node;" } : Jvm.MethodName)) ∈ lw_all := lw_g (lw_at lw_m3 155 rfl) rfl
theorem q717 : (Jvm.Cond.privateMethod ({ cls := "PointsForAll$Reader", name := "wrong", desc := "()LPointsForAll$Node;" } : Jvm.MethodName)) ∈ lw_tbl := lw_at lw_m3 156 rfl
theorem q718 : (Jvm.Cond.instanceMethod ({ cls := "PointsForAll$Reader", name := "wrong", desc := "()LPointsForAll$Node;" } : Jvm.MethodName)) ∈ lw_all := lw_g (lw_at lw_m3 157 rfl) rfl
theorem q719 : (Jvm.Cond.code ({ cls := "PointsForAll$Reader", name := "wrong", desc := "()LPointsForAll$Node;" } : Jvm.MethodName) prog_23_method_4_code (1 : Nat) (Option.some (Jvm.ClassFile.FieldType.object "PointsForAll$Node"))) ∈ lw_all := lw_g (lw_at lw_m3 158 rfl) rfl
theorem q720 : (Jvm.Cond.classLink "PointsForAll$Reader" (112 : Nat) "PointsForAll$Denied") ∈ lw_all := lw_g (lw_at lw_m3 159 rfl) rfl
theorem q722 : (Jvm.Cond.methodLink "PointsForAll$Reader" (114 : Nat) ({ cls := "PointsForAll$Denied", name := "<init>", desc := "(LPointsForAll$Node;)V" } : Jvm.MethodName)) ∈ lw_all := lw_g (lw_at lw_m3 161 rfl) rfl
theorem q730 : (Jvm.Cond.classLink "PointsForAll$Reader" (117 : Nat) "PointsForAll$Turned") ∈ lw_all := lw_g (lw_at lw_m3 169 rfl) rfl
theorem q732 : (Jvm.Cond.methodLink "PointsForAll$Reader" (119 : Nat) ({ cls := "PointsForAll$Turned", name := "<init>", desc := "(LPointsForAll$Node;)V" } : Jvm.MethodName)) ∈ lw_all := lw_g (lw_at lw_m3 171 rfl) rfl
theorem q740 : (Jvm.Cond.methodLinkNest "PointsForAll$Reader" (120 : Nat) ({ cls := "PointsForAll", name := "in", desc := "(III)Z" } : Jvm.MethodName) "PointsForAll") ∈ lw_tbl := lw_at lw_m3 179 rfl
theorem q741 : (Jvm.Cond.classLink "PointsForAll$Reader" (124 : Nat) "PointsForAll$Leaf") ∈ lw_all := lw_g (lw_at lw_m3 180 rfl) rfl
theorem q743 : (Jvm.Cond.methodLink "PointsForAll$Reader" (126 : Nat) ({ cls := "PointsForAll$Leaf", name := "<init>", desc := "(I)V" } : Jvm.MethodName)) ∈ lw_all := lw_g (lw_at lw_m3 182 rfl) rfl
theorem q751 : (Jvm.Cond.stringRef "PointsForAll$Reader" (93 : Nat) "*/%") ∈ lw_tbl := lw_at lw_m3 190 rfl
theorem q752 : (Jvm.Cond.methodLink "PointsForAll$Reader" (69 : Nat) ({ cls := "PointsForAll$Reader", name := "joined", desc := "(ILPointsForAll$Node;LPointsForAll$Node;)LPointsForAll$Node;" } : Jvm.MethodName)) ∈ lw_all := lw_g (lw_at lw_m3 191 rfl) rfl
theorem q753 : (Jvm.Cond.privateMethod ({ cls := "PointsForAll$Reader", name := "joined", desc := "(ILPointsForAll$Node;LPointsForAll$Node;)LPointsForAll$Node;" } : Jvm.MethodName)) ∈ lw_tbl := lw_at lw_m3 192 rfl
theorem q754 : (Jvm.Cond.instanceMethod ({ cls := "PointsForAll$Reader", name := "joined", desc := "(ILPointsForAll$Node;LPointsForAll$Node;)LPointsForAll$Node;" } : Jvm.MethodName)) ∈ lw_all := lw_g (lw_at lw_m3 193 rfl) rfl
theorem q755 : (Jvm.Cond.code ({ cls := "PointsForAll$Reader", name := "joined", desc := "(ILPointsForAll$Node;LPointsForAll$Node;)LPointsForAll$Node;" } : Jvm.MethodName) prog_23_method_7_code (4 : Nat) (Option.some (Jvm.ClassFile.FieldType.object "PointsForAll$Node"))) ∈ lw_all := lw_g (lw_at lw_m3 194 rfl) rfl
theorem q756 : (Jvm.Cond.classLink "PointsForAll$Reader" (61 : Nat) "PointsForAll$Pair") ∈ lw_all := lw_g (lw_at lw_m3 195 rfl) rfl
theorem q758 : (Jvm.Cond.methodLink "PointsForAll$Reader" (63 : Nat) ({ cls := "PointsForAll$Pair", name := "<init>", desc := "(ILPointsForAll$Node;LPointsForAll$Node;)V" } : Jvm.MethodName)) ∈ lw_all := lw_g (lw_at lw_m3 197 rfl) rfl
theorem q772 : (Jvm.Cond.stringRef "PointsForAll$Reader" (88 : Nat) "+-") ∈ lw_tbl := lw_at lw_m3 211 rfl
theorem q773 : (Jvm.Cond.stringRef "PointsForAll$Reader" (79 : Nat) "<=>") ∈ lw_tbl := lw_at lw_m3 212 rfl
theorem in_X6 : ∀ w ∈ wsX60, w ∈ lw_all := lw_in wsX60 [544, 546, 548, 550] (by decide +kernel) (by decide +kernel)

/-! PointsForAll$Line -/
set_option maxRecDepth 100000
def RX7 : String := "PointsForAll$Line"
def TX7 : u_T := fun k => match k with
  | 0 => ("PointsForAll$Line", "test", "LPointsForAll$Node;", false)
  | 1 => ("PointsForAll$Line", "gives", "LPointsForAll$Node;", false)
  | _ => ("PointsForAll$Line", "next", "LPointsForAll$Line;", false)
def tyX7 : Nat → FieldType := fun k => match k with
  | 0 => .object "PointsForAll$Node"
  | 1 => .object "PointsForAll$Node"
  | _ => .object "PointsForAll$Line"
abbrev wsX70 : List Cond := u_ws RX7 TX7 3
theorem nmX7 : ∀ a, a < 3 → ∀ b, b < 3 → a ≠ b → (TX7 a).2.1 ≠ (TX7 b).2.1 := by decide +kernel
theorem tyX7_ok : ∀ k, k < 3 → parseFieldDescriptor (TX7 k).2.2.1 = some (tyX7 k) := by decide +kernel
abbrev cX7_init : ByteArray := prog_16_method_1_code
def yX7_init : MethodName := ⟨RX7, "<init>", "()V"⟩
theorem dX7_init_0 : decode cX7_init 0 = .ok (.aload_n 0, 1) := by decide +kernel
theorem dX7_init_1 : decode cX7_init 1 = .ok (.invokespecial 1, 3) := by decide +kernel
theorem dX7_init_4 : decode cX7_init 4 = .ok (.return_, 1) := by decide +kernel
theorem q97 : (Jvm.Cond.initialized "PointsForAll$Line") ∈ lw_all := lw_g (lw_at lw_m1 16 rfl) rfl
theorem q562 : (Jvm.Cond.instantiable "PointsForAll$Line" (3 : Nat)) ∈ lw_all := lw_g (lw_at lw_m3 1 rfl) rfl
theorem q564 : (Jvm.Cond.instanceMethod ({ cls := "PointsForAll$Line", name := "<init>", desc := "()V" } : Jvm.MethodName)) ∈ lw_all := lw_g (lw_at lw_m3 3 rfl) rfl
theorem q565 : (Jvm.Cond.code ({ cls := "PointsForAll$Line", name := "<init>", desc := "()V" } : Jvm.MethodName) prog_16_method_1_code (1 : Nat) (Option.none : Option Jvm.ClassFile.FieldType)) ∈ lw_all := lw_g (lw_at lw_m3 4 rfl) rfl
theorem q566 : (Jvm.Cond.methodLink "PointsForAll$Line" (1 : Nat) ({ cls := "java/lang/Object", name := "<init>", desc := "()V" } : Jvm.MethodName)) ∈ lw_all := lw_g (lw_at lw_m3 5 rfl) rfl
theorem q573 : (Jvm.Cond.lays "PointsForAll$Line" "PointsForAll$Line" "test" "LPointsForAll$Node;") ∈ lw_all := lw_g (lw_at lw_m3 12 rfl) rfl
theorem q574 : (Jvm.Cond.soleField "PointsForAll$Line" "test") ∈ lw_all := lw_g (lw_at lw_m3 13 rfl) rfl
theorem q575 : (Jvm.Cond.lays "PointsForAll$Line" "PointsForAll$Line" "gives" "LPointsForAll$Node;") ∈ lw_all := lw_g (lw_at lw_m3 14 rfl) rfl
theorem q576 : (Jvm.Cond.soleField "PointsForAll$Line" "gives") ∈ lw_all := lw_g (lw_at lw_m3 15 rfl) rfl
theorem q577 : (Jvm.Cond.lays "PointsForAll$Line" "PointsForAll$Line" "next" "LPointsForAll$Line;") ∈ lw_all := lw_g (lw_at lw_m3 16 rfl) rfl
theorem q578 : (Jvm.Cond.soleField "PointsForAll$Line" "next") ∈ lw_all := lw_g (lw_at lw_m3 17 rfl) rfl
theorem q579 : (Jvm.Cond.superclass "PointsForAll$Line" "java/lang/Object") ∈ lw_all := lw_g (lw_at lw_m3 18 rfl) rfl
theorem in_X7 : ∀ w ∈ wsX70, w ∈ lw_all := lw_in wsX70 [573, 575, 577] (by decide +kernel) (by decide +kernel)

/-! PointsForAll$Node -/
set_option maxRecDepth 100000
def RX8 : String := "PointsForAll$Node"
abbrev cX8_init : ByteArray := prog_19_method_1_code
def yX8_init : MethodName := ⟨RX8, "<init>", "()V"⟩
theorem dX8_init_0 : decode cX8_init 0 = .ok (.aload_n 0, 1) := by decide +kernel
theorem dX8_init_1 : decode cX8_init 1 = .ok (.invokespecial 1, 3) := by decide +kernel
theorem dX8_init_4 : decode cX8_init 4 = .ok (.return_, 1) := by decide +kernel
theorem q103 : (Jvm.Cond.initialized "PointsForAll$Node") ∈ lw_all := lw_g (lw_at lw_m1 22 rfl) rfl
theorem q705 : (Jvm.Cond.instanceMethod ({ cls := "PointsForAll$Node", name := "<init>", desc := "()V" } : Jvm.MethodName)) ∈ lw_all := lw_g (lw_at lw_m3 144 rfl) rfl
theorem q706 : (Jvm.Cond.code ({ cls := "PointsForAll$Node", name := "<init>", desc := "()V" } : Jvm.MethodName) prog_19_method_1_code (1 : Nat) (Option.none : Option Jvm.ClassFile.FieldType)) ∈ lw_all := lw_g (lw_at lw_m3 145 rfl) rfl
theorem q707 : (Jvm.Cond.methodLink "PointsForAll$Node" (1 : Nat) ({ cls := "java/lang/Object", name := "<init>", desc := "()V" } : Jvm.MethodName)) ∈ lw_all := lw_g (lw_at lw_m3 146 rfl) rfl
theorem q787 : (Jvm.Cond.declares ({ cls := "PointsForAll$Node", name := "value", desc := "(LPointsForAll$Facts;)I" } : Jvm.MethodName)) ∈ lw_tbl := lw_at lw_m3 226 rfl
theorem q788 : (Jvm.Cond.sameMethod "PointsForAll$Node" "PointsForAll$Node" "value" "(LPointsForAll$Facts;)I") ∈ lw_all := lw_g (lw_at lw_m3 227 rfl) rfl

/-! PointsForAll$Name -/
set_option maxRecDepth 100000
def RX9 : String := "PointsForAll$Name"
def TX9 : u_T := fun k => match k with
  | _ => ("PointsForAll$Name", "letter", "I", true)
def tyX9 : Nat → FieldType := fun k => match k with
  | _ => .int
abbrev wsX90 : List Cond := u_ws RX9 TX9 1
theorem nmX9 : ∀ a, a < 1 → ∀ b, b < 1 → a ≠ b → (TX9 a).2.1 ≠ (TX9 b).2.1 := by decide +kernel
theorem tyX9_ok : ∀ k, k < 1 → parseFieldDescriptor (TX9 k).2.2.1 = some (tyX9 k) := by decide +kernel
abbrev cX9_init : ByteArray := prog_18_method_1_code
def yX9_init : MethodName := ⟨RX9, "<init>", "(I)V"⟩
def dkwX9_init_0 : List UInt8 := [42, 183, 0, 1, 42, 27, 181, 0, 7, 177]
abbrev dktX9_init_0 : List UInt8 := dkwX9_init_0 ++ []
theorem dksX9_init_0 : cX9_init.data.toList.drop 0 = dktX9_init_0 := by decide +kernel
theorem dX9_init_0 : decode cX9_init 0 = .ok (.aload_n 0, 1) := dk_42 (dk_at dksX9_init_0 0 rfl rfl)
theorem dX9_init_1 : decode cX9_init 1 = .ok (.invokespecial 1, 3) := dk_183 0 1 (dk_at dksX9_init_0 1 rfl rfl)
theorem dX9_init_4 : decode cX9_init 4 = .ok (.aload_n 0, 1) := dk_42 (dk_at dksX9_init_0 4 rfl rfl)
theorem dX9_init_5 : decode cX9_init 5 = .ok (.iload_n 1, 1) := dk_27 (dk_at dksX9_init_0 5 rfl rfl)
theorem dX9_init_6 : decode cX9_init 6 = .ok (.putfield 7, 3) := dk_181 0 7 (dk_at dksX9_init_0 6 rfl rfl)
theorem dX9_init_9 : decode cX9_init 9 = .ok (.return_, 1) := dk_177 (dk_at dksX9_init_0 9 rfl rfl)
abbrev cX9_value : ByteArray := prog_18_method_2_code
def yX9_value : MethodName := ⟨RX9, "value", "(LPointsForAll$Facts;)I"⟩
def dkwX9_value_0 : List UInt8 := [43, 180, 0, 13, 42, 180, 0, 7, 46, 172]
abbrev dktX9_value_0 : List UInt8 := dkwX9_value_0 ++ []
theorem dksX9_value_0 : cX9_value.data.toList.drop 0 = dktX9_value_0 := by decide +kernel
theorem dX9_value_0 : decode cX9_value 0 = .ok (.aload_n 1, 1) := dk_43 (dk_at dksX9_value_0 0 rfl rfl)
theorem dX9_value_1 : decode cX9_value 1 = .ok (.getfield 13, 3) := dk_180 0 13 (dk_at dksX9_value_0 1 rfl rfl)
theorem dX9_value_4 : decode cX9_value 4 = .ok (.aload_n 0, 1) := dk_42 (dk_at dksX9_value_0 4 rfl rfl)
theorem dX9_value_5 : decode cX9_value 5 = .ok (.getfield 7, 3) := dk_180 0 7 (dk_at dksX9_value_0 5 rfl rfl)
theorem dX9_value_8 : decode cX9_value 8 = .ok (.iaload, 1) := dk_46 (dk_at dksX9_value_0 8 rfl rfl)
theorem dX9_value_9 : decode cX9_value 9 = .ok (.ireturn, 1) := dk_172 (dk_at dksX9_value_0 9 rfl rfl)
theorem q104 : (Jvm.Cond.initialized "PointsForAll$Name") ∈ lw_all := lw_g (lw_at lw_m1 23 rfl) rfl
theorem q150 : (Jvm.Cond.fieldLinkNest "PointsForAll$Name" (13 : Nat) "PointsForAll$Facts" "named" "[I" "PointsForAll") ∈ lw_tbl := lw_at lw_m1 69 rfl
theorem q700 : (Jvm.Cond.instantiable "PointsForAll$Name" (1 : Nat)) ∈ lw_all := lw_g (lw_at lw_m3 139 rfl) rfl
theorem q702 : (Jvm.Cond.instanceMethod ({ cls := "PointsForAll$Name", name := "<init>", desc := "(I)V" } : Jvm.MethodName)) ∈ lw_all := lw_g (lw_at lw_m3 141 rfl) rfl
theorem q703 : (Jvm.Cond.code ({ cls := "PointsForAll$Name", name := "<init>", desc := "(I)V" } : Jvm.MethodName) prog_18_method_1_code (2 : Nat) (Option.none : Option Jvm.ClassFile.FieldType)) ∈ lw_all := lw_g (lw_at lw_m3 142 rfl) rfl
theorem q704 : (Jvm.Cond.methodLinkNest "PointsForAll$Name" (1 : Nat) ({ cls := "PointsForAll$Node", name := "<init>", desc := "()V" } : Jvm.MethodName) "PointsForAll") ∈ lw_tbl := lw_at lw_m3 143 rfl
theorem q708 : (Jvm.Cond.fieldLink "PointsForAll$Name" (7 : Nat) "PointsForAll$Name" "letter" "I") ∈ lw_all := lw_g (lw_at lw_m3 147 rfl) rfl
theorem q709 : (Jvm.Cond.laysFinal "PointsForAll$Name" "PointsForAll$Name" "letter" "I") ∈ lw_all := lw_g (lw_at lw_m3 148 rfl) rfl
theorem q710 : (Jvm.Cond.soleField "PointsForAll$Name" "letter") ∈ lw_all := lw_g (lw_at lw_m3 149 rfl) rfl
theorem q711 : (Jvm.Cond.superclass "PointsForAll$Name" "PointsForAll$Node") ∈ lw_all := lw_g (lw_at lw_m3 150 rfl) rfl
theorem q795 : (Jvm.Cond.instanceMethod ({ cls := "PointsForAll$Name", name := "value", desc := "(LPointsForAll$Facts;)I" } : Jvm.MethodName)) ∈ lw_all := lw_g (lw_at lw_m3 234 rfl) rfl
theorem q796 : (Jvm.Cond.code ({ cls := "PointsForAll$Name", name := "value", desc := "(LPointsForAll$Facts;)I" } : Jvm.MethodName) prog_18_method_2_code (2 : Nat) (Option.some Jvm.ClassFile.FieldType.int)) ∈ lw_all := lw_g (lw_at lw_m3 235 rfl) rfl
theorem q807 : (Jvm.Cond.selects "PointsForAll$Name" ({ cls := "PointsForAll$Node", name := "value", desc := "(LPointsForAll$Facts;)I" } : Jvm.MethodName) ({ cls := "PointsForAll$Name", name := "value", desc := "(LPointsForAll$Facts;)I" } : Jvm.MethodName)) ∈ lw_all := lw_g (lw_at lw_m4 6 rfl) rfl
theorem in_X9 : ∀ w ∈ wsX90, w ∈ lw_all := lw_in wsX90 [709] (by decide +kernel) (by decide +kernel)

/-! PointsForAll$Denied -/
set_option maxRecDepth 100000
def RX10 : String := "PointsForAll$Denied"
def TX10 : u_T := fun k => match k with
  | _ => ("PointsForAll$Denied", "of", "LPointsForAll$Node;", true)
def tyX10 : Nat → FieldType := fun k => match k with
  | _ => .object "PointsForAll$Node"
abbrev wsX100 : List Cond := u_ws RX10 TX10 1
theorem nmX10 : ∀ a, a < 1 → ∀ b, b < 1 → a ≠ b → (TX10 a).2.1 ≠ (TX10 b).2.1 := by decide +kernel
theorem tyX10_ok : ∀ k, k < 1 → parseFieldDescriptor (TX10 k).2.2.1 = some (tyX10 k) := by decide +kernel
abbrev cX10_init : ByteArray := prog_10_method_1_code
def yX10_init : MethodName := ⟨RX10, "<init>", "(LPointsForAll$Node;)V"⟩
def dkwX10_init_0 : List UInt8 := [42, 183, 0, 1, 42, 43, 181, 0, 7, 177]
abbrev dktX10_init_0 : List UInt8 := dkwX10_init_0 ++ []
theorem dksX10_init_0 : cX10_init.data.toList.drop 0 = dktX10_init_0 := by decide +kernel
theorem dX10_init_0 : decode cX10_init 0 = .ok (.aload_n 0, 1) := dk_42 (dk_at dksX10_init_0 0 rfl rfl)
theorem dX10_init_1 : decode cX10_init 1 = .ok (.invokespecial 1, 3) := dk_183 0 1 (dk_at dksX10_init_0 1 rfl rfl)
theorem dX10_init_4 : decode cX10_init 4 = .ok (.aload_n 0, 1) := dk_42 (dk_at dksX10_init_0 4 rfl rfl)
theorem dX10_init_5 : decode cX10_init 5 = .ok (.aload_n 1, 1) := dk_43 (dk_at dksX10_init_0 5 rfl rfl)
theorem dX10_init_6 : decode cX10_init 6 = .ok (.putfield 7, 3) := dk_181 0 7 (dk_at dksX10_init_0 6 rfl rfl)
theorem dX10_init_9 : decode cX10_init 9 = .ok (.return_, 1) := dk_177 (dk_at dksX10_init_0 9 rfl rfl)
abbrev cX10_value : ByteArray := prog_10_method_2_code
def yX10_value : MethodName := ⟨RX10, "value", "(LPointsForAll$Facts;)I"⟩
def dkwX10_value_0 : List UInt8 := [42, 180, 0, 7, 43, 182, 0, 13, 154, 0, 7, 4, 167, 0, 4, 3, 172]
abbrev dktX10_value_0 : List UInt8 := dkwX10_value_0 ++ []
theorem dksX10_value_0 : cX10_value.data.toList.drop 0 = dktX10_value_0 := by decide +kernel
theorem dX10_value_0 : decode cX10_value 0 = .ok (.aload_n 0, 1) := dk_42 (dk_at dksX10_value_0 0 rfl rfl)
theorem dX10_value_1 : decode cX10_value 1 = .ok (.getfield 7, 3) := dk_180 0 7 (dk_at dksX10_value_0 1 rfl rfl)
theorem dX10_value_4 : decode cX10_value 4 = .ok (.aload_n 1, 1) := dk_43 (dk_at dksX10_value_0 4 rfl rfl)
theorem dX10_value_5 : decode cX10_value 5 = .ok (.invokevirtual 13, 3) := dk_182 0 13 (dk_at dksX10_value_0 5 rfl rfl)
theorem dX10_value_8 : decode cX10_value 8 = .ok (.ifCond .ne 7, 3) := dk_154 0 7 (dk_at dksX10_value_0 8 rfl rfl)
theorem dX10_value_11 : decode cX10_value 11 = .ok (.iconst 1, 1) := dk_4 (dk_at dksX10_value_0 11 rfl rfl)
theorem dX10_value_12 : decode cX10_value 12 = .ok (.goto 4, 3) := dk_167 0 4 (dk_at dksX10_value_0 12 rfl rfl)
theorem dX10_value_15 : decode cX10_value 15 = .ok (.iconst 0, 1) := dk_3 (dk_at dksX10_value_0 15 rfl rfl)
theorem dX10_value_16 : decode cX10_value 16 = .ok (.ireturn, 1) := dk_172 (dk_at dksX10_value_0 16 rfl rfl)
theorem q105 : (Jvm.Cond.initialized "PointsForAll$Denied") ∈ lw_all := lw_g (lw_at lw_m1 24 rfl) rfl
theorem q721 : (Jvm.Cond.instantiable "PointsForAll$Denied" (1 : Nat)) ∈ lw_all := lw_g (lw_at lw_m3 160 rfl) rfl
theorem q723 : (Jvm.Cond.instanceMethod ({ cls := "PointsForAll$Denied", name := "<init>", desc := "(LPointsForAll$Node;)V" } : Jvm.MethodName)) ∈ lw_all := lw_g (lw_at lw_m3 162 rfl) rfl
theorem q724 : (Jvm.Cond.code ({ cls := "PointsForAll$Denied", name := "<init>", desc := "(LPointsForAll$Node;)V" } : Jvm.MethodName) prog_10_method_1_code (2 : Nat) (Option.none : Option Jvm.ClassFile.FieldType)) ∈ lw_all := lw_g (lw_at lw_m3 163 rfl) rfl
theorem q725 : (Jvm.Cond.methodLinkNest "PointsForAll$Denied" (1 : Nat) ({ cls := "PointsForAll$Node", name := "<init>", desc := "()V" } : Jvm.MethodName) "PointsForAll") ∈ lw_tbl := lw_at lw_m3 164 rfl
theorem q726 : (Jvm.Cond.fieldLink "PointsForAll$Denied" (7 : Nat) "PointsForAll$Denied" "of" "LPointsForAll$Node;") ∈ lw_all := lw_g (lw_at lw_m3 165 rfl) rfl
theorem q727 : (Jvm.Cond.laysFinal "PointsForAll$Denied" "PointsForAll$Denied" "of" "LPointsForAll$Node;") ∈ lw_all := lw_g (lw_at lw_m3 166 rfl) rfl
theorem q728 : (Jvm.Cond.soleField "PointsForAll$Denied" "of") ∈ lw_all := lw_g (lw_at lw_m3 167 rfl) rfl
theorem q729 : (Jvm.Cond.superclass "PointsForAll$Denied" "PointsForAll$Node") ∈ lw_all := lw_g (lw_at lw_m3 168 rfl) rfl
theorem q789 : (Jvm.Cond.selects "PointsForAll$Denied" ({ cls := "PointsForAll$Node", name := "value", desc := "(LPointsForAll$Facts;)I" } : Jvm.MethodName) ({ cls := "PointsForAll$Denied", name := "value", desc := "(LPointsForAll$Facts;)I" } : Jvm.MethodName)) ∈ lw_all := lw_g (lw_at lw_m3 228 rfl) rfl
theorem q790 : (Jvm.Cond.instanceMethod ({ cls := "PointsForAll$Denied", name := "value", desc := "(LPointsForAll$Facts;)I" } : Jvm.MethodName)) ∈ lw_all := lw_g (lw_at lw_m3 229 rfl) rfl
theorem q791 : (Jvm.Cond.code ({ cls := "PointsForAll$Denied", name := "value", desc := "(LPointsForAll$Facts;)I" } : Jvm.MethodName) prog_10_method_2_code (2 : Nat) (Option.some Jvm.ClassFile.FieldType.int)) ∈ lw_all := lw_g (lw_at lw_m3 230 rfl) rfl
theorem q792 : (Jvm.Cond.methodLink "PointsForAll$Denied" (13 : Nat) ({ cls := "PointsForAll$Node", name := "value", desc := "(LPointsForAll$Facts;)I" } : Jvm.MethodName)) ∈ lw_all := lw_g (lw_at lw_m3 231 rfl) rfl
theorem in_X10 : ∀ w ∈ wsX100, w ∈ lw_all := lw_in wsX100 [727] (by decide +kernel) (by decide +kernel)

/-! PointsForAll$Turned -/
set_option maxRecDepth 100000
def RX11 : String := "PointsForAll$Turned"
def TX11 : u_T := fun k => match k with
  | _ => ("PointsForAll$Turned", "of", "LPointsForAll$Node;", true)
def tyX11 : Nat → FieldType := fun k => match k with
  | _ => .object "PointsForAll$Node"
abbrev wsX110 : List Cond := u_ws RX11 TX11 1
theorem nmX11 : ∀ a, a < 1 → ∀ b, b < 1 → a ≠ b → (TX11 a).2.1 ≠ (TX11 b).2.1 := by decide +kernel
theorem tyX11_ok : ∀ k, k < 1 → parseFieldDescriptor (TX11 k).2.2.1 = some (tyX11 k) := by decide +kernel
abbrev cX11_init : ByteArray := prog_30_method_1_code
def yX11_init : MethodName := ⟨RX11, "<init>", "(LPointsForAll$Node;)V"⟩
def dkwX11_init_0 : List UInt8 := [42, 183, 0, 1, 42, 43, 181, 0, 7, 177]
abbrev dktX11_init_0 : List UInt8 := dkwX11_init_0 ++ []
theorem dksX11_init_0 : cX11_init.data.toList.drop 0 = dktX11_init_0 := by decide +kernel
theorem dX11_init_0 : decode cX11_init 0 = .ok (.aload_n 0, 1) := dk_42 (dk_at dksX11_init_0 0 rfl rfl)
theorem dX11_init_1 : decode cX11_init 1 = .ok (.invokespecial 1, 3) := dk_183 0 1 (dk_at dksX11_init_0 1 rfl rfl)
theorem dX11_init_4 : decode cX11_init 4 = .ok (.aload_n 0, 1) := dk_42 (dk_at dksX11_init_0 4 rfl rfl)
theorem dX11_init_5 : decode cX11_init 5 = .ok (.aload_n 1, 1) := dk_43 (dk_at dksX11_init_0 5 rfl rfl)
theorem dX11_init_6 : decode cX11_init 6 = .ok (.putfield 7, 3) := dk_181 0 7 (dk_at dksX11_init_0 6 rfl rfl)
theorem dX11_init_9 : decode cX11_init 9 = .ok (.return_, 1) := dk_177 (dk_at dksX11_init_0 9 rfl rfl)
abbrev cX11_value : ByteArray := prog_30_method_2_code
def yX11_value : MethodName := ⟨RX11, "value", "(LPointsForAll$Facts;)I"⟩
def dkwX11_value_0 : List UInt8 := [42, 180, 0, 7, 43, 182, 0, 13, 116, 172]
abbrev dktX11_value_0 : List UInt8 := dkwX11_value_0 ++ []
theorem dksX11_value_0 : cX11_value.data.toList.drop 0 = dktX11_value_0 := by decide +kernel
theorem dX11_value_0 : decode cX11_value 0 = .ok (.aload_n 0, 1) := dk_42 (dk_at dksX11_value_0 0 rfl rfl)
theorem dX11_value_1 : decode cX11_value 1 = .ok (.getfield 7, 3) := dk_180 0 7 (dk_at dksX11_value_0 1 rfl rfl)
theorem dX11_value_4 : decode cX11_value 4 = .ok (.aload_n 1, 1) := dk_43 (dk_at dksX11_value_0 4 rfl rfl)
theorem dX11_value_5 : decode cX11_value 5 = .ok (.invokevirtual 13, 3) := dk_182 0 13 (dk_at dksX11_value_0 5 rfl rfl)
theorem dX11_value_8 : decode cX11_value 8 = .ok (.ineg, 1) := dk_116 (dk_at dksX11_value_0 8 rfl rfl)
theorem dX11_value_9 : decode cX11_value 9 = .ok (.ireturn, 1) := dk_172 (dk_at dksX11_value_0 9 rfl rfl)
theorem q106 : (Jvm.Cond.initialized "PointsForAll$Turned") ∈ lw_all := lw_g (lw_at lw_m1 25 rfl) rfl
theorem q731 : (Jvm.Cond.instantiable "PointsForAll$Turned" (1 : Nat)) ∈ lw_all := lw_g (lw_at lw_m3 170 rfl) rfl
theorem q733 : (Jvm.Cond.instanceMethod ({ cls := "PointsForAll$Turned", name := "<init>", desc := "(LPointsForAll$Node;)V" } : Jvm.MethodName)) ∈ lw_all := lw_g (lw_at lw_m3 172 rfl) rfl
theorem q734 : (Jvm.Cond.code ({ cls := "PointsForAll$Turned", name := "<init>", desc := "(LPointsForAll$Node;)V" } : Jvm.MethodName) prog_30_method_1_code (2 : Nat) (Option.none : Option Jvm.ClassFile.FieldType)) ∈ lw_all := lw_g (lw_at lw_m3 173 rfl) rfl
theorem q735 : (Jvm.Cond.methodLinkNest "PointsForAll$Turned" (1 : Nat) ({ cls := "PointsForAll$Node", name := "<init>", desc := "()V" } : Jvm.MethodName) "PointsForAll") ∈ lw_tbl := lw_at lw_m3 174 rfl
theorem q736 : (Jvm.Cond.fieldLink "PointsForAll$Turned" (7 : Nat) "PointsForAll$Turned" "of" "LPointsForAll$Node;") ∈ lw_all := lw_g (lw_at lw_m3 175 rfl) rfl
theorem q737 : (Jvm.Cond.laysFinal "PointsForAll$Turned" "PointsForAll$Turned" "of" "LPointsForAll$Node;") ∈ lw_all := lw_g (lw_at lw_m3 176 rfl) rfl
theorem q738 : (Jvm.Cond.soleField "PointsForAll$Turned" "of") ∈ lw_all := lw_g (lw_at lw_m3 177 rfl) rfl
theorem q739 : (Jvm.Cond.superclass "PointsForAll$Turned" "PointsForAll$Node") ∈ lw_all := lw_g (lw_at lw_m3 178 rfl) rfl
theorem q800 : (Jvm.Cond.instanceMethod ({ cls := "PointsForAll$Turned", name := "value", desc := "(LPointsForAll$Facts;)I" } : Jvm.MethodName)) ∈ lw_all := lw_g (lw_at lw_m3 239 rfl) rfl
theorem q801 : (Jvm.Cond.code ({ cls := "PointsForAll$Turned", name := "value", desc := "(LPointsForAll$Facts;)I" } : Jvm.MethodName) prog_30_method_2_code (2 : Nat) (Option.some Jvm.ClassFile.FieldType.int)) ∈ lw_all := lw_g (lw_at lw_m4 0 rfl) rfl
theorem q802 : (Jvm.Cond.methodLink "PointsForAll$Turned" (13 : Nat) ({ cls := "PointsForAll$Node", name := "value", desc := "(LPointsForAll$Facts;)I" } : Jvm.MethodName)) ∈ lw_all := lw_g (lw_at lw_m4 1 rfl) rfl
theorem q809 : (Jvm.Cond.selects "PointsForAll$Turned" ({ cls := "PointsForAll$Node", name := "value", desc := "(LPointsForAll$Facts;)I" } : Jvm.MethodName) ({ cls := "PointsForAll$Turned", name := "value", desc := "(LPointsForAll$Facts;)I" } : Jvm.MethodName)) ∈ lw_all := lw_g (lw_at lw_m4 8 rfl) rfl
theorem in_X11 : ∀ w ∈ wsX110, w ∈ lw_all := lw_in wsX110 [737] (by decide +kernel) (by decide +kernel)

/-! PointsForAll$Leaf -/
set_option maxRecDepth 100000
def RX12 : String := "PointsForAll$Leaf"
def TX12 : u_T := fun k => match k with
  | _ => ("PointsForAll$Leaf", "number", "I", true)
def tyX12 : Nat → FieldType := fun k => match k with
  | _ => .int
abbrev wsX120 : List Cond := u_ws RX12 TX12 1
theorem nmX12 : ∀ a, a < 1 → ∀ b, b < 1 → a ≠ b → (TX12 a).2.1 ≠ (TX12 b).2.1 := by decide +kernel
theorem tyX12_ok : ∀ k, k < 1 → parseFieldDescriptor (TX12 k).2.2.1 = some (tyX12 k) := by decide +kernel
abbrev cX12_init : ByteArray := prog_14_method_1_code
def yX12_init : MethodName := ⟨RX12, "<init>", "(I)V"⟩
def dkwX12_init_0 : List UInt8 := [42, 183, 0, 1, 42, 27, 181, 0, 7, 177]
abbrev dktX12_init_0 : List UInt8 := dkwX12_init_0 ++ []
theorem dksX12_init_0 : cX12_init.data.toList.drop 0 = dktX12_init_0 := by decide +kernel
theorem dX12_init_0 : decode cX12_init 0 = .ok (.aload_n 0, 1) := dk_42 (dk_at dksX12_init_0 0 rfl rfl)
theorem dX12_init_1 : decode cX12_init 1 = .ok (.invokespecial 1, 3) := dk_183 0 1 (dk_at dksX12_init_0 1 rfl rfl)
theorem dX12_init_4 : decode cX12_init 4 = .ok (.aload_n 0, 1) := dk_42 (dk_at dksX12_init_0 4 rfl rfl)
theorem dX12_init_5 : decode cX12_init 5 = .ok (.iload_n 1, 1) := dk_27 (dk_at dksX12_init_0 5 rfl rfl)
theorem dX12_init_6 : decode cX12_init 6 = .ok (.putfield 7, 3) := dk_181 0 7 (dk_at dksX12_init_0 6 rfl rfl)
theorem dX12_init_9 : decode cX12_init 9 = .ok (.return_, 1) := dk_177 (dk_at dksX12_init_0 9 rfl rfl)
abbrev cX12_value : ByteArray := prog_14_method_2_code
def yX12_value : MethodName := ⟨RX12, "value", "(LPointsForAll$Facts;)I"⟩
theorem dX12_value_0 : decode cX12_value 0 = .ok (.aload_n 0, 1) := by decide +kernel
theorem dX12_value_1 : decode cX12_value 1 = .ok (.getfield 7, 3) := by decide +kernel
theorem dX12_value_4 : decode cX12_value 4 = .ok (.ireturn, 1) := by decide +kernel
theorem q107 : (Jvm.Cond.initialized "PointsForAll$Leaf") ∈ lw_all := lw_g (lw_at lw_m1 26 rfl) rfl
theorem q742 : (Jvm.Cond.instantiable "PointsForAll$Leaf" (1 : Nat)) ∈ lw_all := lw_g (lw_at lw_m3 181 rfl) rfl
theorem q744 : (Jvm.Cond.instanceMethod ({ cls := "PointsForAll$Leaf", name := "<init>", desc := "(I)V" } : Jvm.MethodName)) ∈ lw_all := lw_g (lw_at lw_m3 183 rfl) rfl
theorem q745 : (Jvm.Cond.code ({ cls := "PointsForAll$Leaf", name := "<init>", desc := "(I)V" } : Jvm.MethodName) prog_14_method_1_code (2 : Nat) (Option.none : Option Jvm.ClassFile.FieldType)) ∈ lw_all := lw_g (lw_at lw_m3 184 rfl) rfl
theorem q746 : (Jvm.Cond.methodLinkNest "PointsForAll$Leaf" (1 : Nat) ({ cls := "PointsForAll$Node", name := "<init>", desc := "()V" } : Jvm.MethodName) "PointsForAll") ∈ lw_tbl := lw_at lw_m3 185 rfl
theorem q747 : (Jvm.Cond.fieldLink "PointsForAll$Leaf" (7 : Nat) "PointsForAll$Leaf" "number" "I") ∈ lw_all := lw_g (lw_at lw_m3 186 rfl) rfl
theorem q748 : (Jvm.Cond.laysFinal "PointsForAll$Leaf" "PointsForAll$Leaf" "number" "I") ∈ lw_all := lw_g (lw_at lw_m3 187 rfl) rfl
theorem q749 : (Jvm.Cond.soleField "PointsForAll$Leaf" "number") ∈ lw_all := lw_g (lw_at lw_m3 188 rfl) rfl
theorem q750 : (Jvm.Cond.superclass "PointsForAll$Leaf" "PointsForAll$Node") ∈ lw_all := lw_g (lw_at lw_m3 189 rfl) rfl
theorem q793 : (Jvm.Cond.instanceMethod ({ cls := "PointsForAll$Leaf", name := "value", desc := "(LPointsForAll$Facts;)I" } : Jvm.MethodName)) ∈ lw_all := lw_g (lw_at lw_m3 232 rfl) rfl
theorem q794 : (Jvm.Cond.code ({ cls := "PointsForAll$Leaf", name := "value", desc := "(LPointsForAll$Facts;)I" } : Jvm.MethodName) prog_14_method_2_code (2 : Nat) (Option.some Jvm.ClassFile.FieldType.int)) ∈ lw_all := lw_g (lw_at lw_m3 233 rfl) rfl
theorem q806 : (Jvm.Cond.selects "PointsForAll$Leaf" ({ cls := "PointsForAll$Node", name := "value", desc := "(LPointsForAll$Facts;)I" } : Jvm.MethodName) ({ cls := "PointsForAll$Leaf", name := "value", desc := "(LPointsForAll$Facts;)I" } : Jvm.MethodName)) ∈ lw_all := lw_g (lw_at lw_m4 5 rfl) rfl
theorem in_X12 : ∀ w ∈ wsX120, w ∈ lw_all := lw_in wsX120 [748] (by decide +kernel) (by decide +kernel)

/-! PointsForAll$Pair -/
set_option maxRecDepth 100000
def RX13 : String := "PointsForAll$Pair"
def TX13 : u_T := fun k => match k with
  | 0 => ("PointsForAll$Pair", "sign", "I", true)
  | 1 => ("PointsForAll$Pair", "left", "LPointsForAll$Node;", true)
  | _ => ("PointsForAll$Pair", "right", "LPointsForAll$Node;", true)
def tyX13 : Nat → FieldType := fun k => match k with
  | 0 => .int
  | 1 => .object "PointsForAll$Node"
  | _ => .object "PointsForAll$Node"
abbrev wsX130 : List Cond := u_ws RX13 TX13 3
theorem nmX13 : ∀ a, a < 3 → ∀ b, b < 3 → a ≠ b → (TX13 a).2.1 ≠ (TX13 b).2.1 := by decide +kernel
theorem tyX13_ok : ∀ k, k < 3 → parseFieldDescriptor (TX13 k).2.2.1 = some (tyX13 k) := by decide +kernel
abbrev cX13_init : ByteArray := prog_20_method_1_code
def yX13_init : MethodName := ⟨RX13, "<init>", "(ILPointsForAll$Node;LPointsForAll$Node;)V"⟩
def dkwX13_init_0 : List UInt8 := [42, 183, 0, 1, 42, 27, 181, 0, 7, 42, 44, 181, 0, 13, 42, 45, 181, 0, 17, 177]
abbrev dktX13_init_0 : List UInt8 := dkwX13_init_0 ++ []
theorem dksX13_init_0 : cX13_init.data.toList.drop 0 = dktX13_init_0 := by decide +kernel
theorem dX13_init_0 : decode cX13_init 0 = .ok (.aload_n 0, 1) := dk_42 (dk_at dksX13_init_0 0 rfl rfl)
theorem dX13_init_1 : decode cX13_init 1 = .ok (.invokespecial 1, 3) := dk_183 0 1 (dk_at dksX13_init_0 1 rfl rfl)
theorem dX13_init_4 : decode cX13_init 4 = .ok (.aload_n 0, 1) := dk_42 (dk_at dksX13_init_0 4 rfl rfl)
theorem dX13_init_5 : decode cX13_init 5 = .ok (.iload_n 1, 1) := dk_27 (dk_at dksX13_init_0 5 rfl rfl)
theorem dX13_init_6 : decode cX13_init 6 = .ok (.putfield 7, 3) := dk_181 0 7 (dk_at dksX13_init_0 6 rfl rfl)
theorem dX13_init_9 : decode cX13_init 9 = .ok (.aload_n 0, 1) := dk_42 (dk_at dksX13_init_0 9 rfl rfl)
theorem dX13_init_10 : decode cX13_init 10 = .ok (.aload_n 2, 1) := dk_44 (dk_at dksX13_init_0 10 rfl rfl)
theorem dX13_init_11 : decode cX13_init 11 = .ok (.putfield 13, 3) := dk_181 0 13 (dk_at dksX13_init_0 11 rfl rfl)
theorem dX13_init_14 : decode cX13_init 14 = .ok (.aload_n 0, 1) := dk_42 (dk_at dksX13_init_0 14 rfl rfl)
theorem dX13_init_15 : decode cX13_init 15 = .ok (.aload_n 3, 1) := dk_45 (dk_at dksX13_init_0 15 rfl rfl)
theorem dX13_init_16 : decode cX13_init 16 = .ok (.putfield 17, 3) := dk_181 0 17 (dk_at dksX13_init_0 16 rfl rfl)
theorem dX13_init_19 : decode cX13_init 19 = .ok (.return_, 1) := dk_177 (dk_at dksX13_init_0 19 rfl rfl)
abbrev cX13_value : ByteArray := prog_20_method_3_code
def yX13_value : MethodName := ⟨RX13, "value", "(LPointsForAll$Facts;)I"⟩
def dkwX13_value_7 : List UInt8 := [154, 0, 7, 29, 153, 0, 7, 4, 167, 0, 4, 3, 184, 0, 24, 172]
abbrev dktX13_value_7 : List UInt8 := dkwX13_value_7 ++ []
def dkwX13_value_6 : List UInt8 := [184, 0, 24, 172, 28, 153, 0, 11, 29, 153, 0, 7, 4, 167, 0, 4, 3, 184, 0, 24, 172, 28]
abbrev dktX13_value_6 : List UInt8 := dkwX13_value_6 ++ dktX13_value_7
def dkwX13_value_5 : List UInt8 := [160, 0, 7, 4, 167, 0, 4, 3, 184, 0, 24, 172, 28, 29, 164, 0, 7, 4, 167, 0, 4, 3]
abbrev dktX13_value_5 : List UInt8 := dkwX13_value_5 ++ dktX13_value_6
def dkwX13_value_4 : List UInt8 := [167, 0, 6, 28, 29, 112, 172, 28, 29, 162, 0, 7, 4, 167, 0, 4, 3, 184, 0, 24, 172, 28, 29]
abbrev dktX13_value_4 : List UInt8 := dkwX13_value_4 ++ dktX13_value_5
def dkwX13_value_3 : List UInt8 := [160, 0, 8, 28, 116, 167, 0, 6, 28, 29, 108, 172, 29, 153, 0, 8, 29, 2, 160, 0, 7, 3]
abbrev dktX13_value_3 : List UInt8 := dkwX13_value_3 ++ dktX13_value_4
def dkwX13_value_2 : List UInt8 := [28, 29, 96, 172, 28, 29, 100, 172, 28, 29, 104, 172, 29, 154, 0, 7, 3, 167, 0, 16, 29, 2]
abbrev dktX13_value_2 : List UInt8 := dkwX13_value_2 ++ dktX13_value_3
def dkwX13_value_1 : List UInt8 := [170, 0, 0, 0, 0, 228, 0, 0, 0, 37, 0, 0, 0, 62, 0, 0, 0, 152, 0, 0, 0, 211, 0, 0, 0, 228, 0, 0, 0, 228, 0, 0, 0, 228, 0, 0, 0, 126, 0, 0, 0, 118, 0, 0, 0, 228, 0, 0, 0, 122, 0, 0, 0, 228, 0, 0, 0, 130, 0, 0, 0, 228, 0, 0, 0, 228, 0, 0, 0, 228, 0, 0, 0, 228, 0, 0, 0, 228, 0, 0, 0, 228, 0, 0, 0, 228, 0, 0, 0, 228, 0, 0, 0, 228, 0, 0, 0, 228, 0, 0, 0, 228, 0, 0, 0, 228, 0, 0, 0, 169, 0, 0, 0, 183, 0, 0, 0, 197]
abbrev dktX13_value_1 : List UInt8 := dkwX13_value_1 ++ dktX13_value_2
def dkwX13_value_0 : List UInt8 := [42, 180, 0, 13, 43, 182, 0, 20, 61, 42, 180, 0, 17, 43, 182, 0, 20, 62, 42, 180, 0, 7]
abbrev dktX13_value_0 : List UInt8 := dkwX13_value_0 ++ dktX13_value_1
theorem dksX13_value_0 : cX13_value.data.toList.drop 0 = dktX13_value_0 := by decide +kernel
theorem dksX13_value_1 : cX13_value.data.toList.drop 22 = dktX13_value_1 := dk_seg dksX13_value_0 22 rfl rfl
theorem dksX13_value_2 : cX13_value.data.toList.drop 140 = dktX13_value_2 := dk_seg dksX13_value_1 118 rfl rfl
theorem dksX13_value_3 : cX13_value.data.toList.drop 162 = dktX13_value_3 := dk_seg dksX13_value_2 22 rfl rfl
theorem dksX13_value_4 : cX13_value.data.toList.drop 184 = dktX13_value_4 := dk_seg dksX13_value_3 22 rfl rfl
theorem dksX13_value_5 : cX13_value.data.toList.drop 207 = dktX13_value_5 := dk_seg dksX13_value_4 23 rfl rfl
theorem dksX13_value_6 : cX13_value.data.toList.drop 229 = dktX13_value_6 := dk_seg dksX13_value_5 22 rfl rfl
theorem dksX13_value_7 : cX13_value.data.toList.drop 251 = dktX13_value_7 := dk_seg dksX13_value_6 22 rfl rfl
theorem dX13_value_0 : decode cX13_value 0 = .ok (.aload_n 0, 1) := dk_42 (dk_at dksX13_value_0 0 rfl rfl)
theorem dX13_value_1 : decode cX13_value 1 = .ok (.getfield 13, 3) := dk_180 0 13 (dk_at dksX13_value_0 1 rfl rfl)
theorem dX13_value_4 : decode cX13_value 4 = .ok (.aload_n 1, 1) := dk_43 (dk_at dksX13_value_0 4 rfl rfl)
theorem dX13_value_5 : decode cX13_value 5 = .ok (.invokevirtual 20, 3) := dk_182 0 20 (dk_at dksX13_value_0 5 rfl rfl)
theorem dX13_value_8 : decode cX13_value 8 = .ok (.istore_n 2, 1) := dk_61 (dk_at dksX13_value_0 8 rfl rfl)
theorem dX13_value_9 : decode cX13_value 9 = .ok (.aload_n 0, 1) := dk_42 (dk_at dksX13_value_0 9 rfl rfl)
theorem dX13_value_10 : decode cX13_value 10 = .ok (.getfield 17, 3) := dk_180 0 17 (dk_at dksX13_value_0 10 rfl rfl)
theorem dX13_value_13 : decode cX13_value 13 = .ok (.aload_n 1, 1) := dk_43 (dk_at dksX13_value_0 13 rfl rfl)
theorem dX13_value_14 : decode cX13_value 14 = .ok (.invokevirtual 20, 3) := dk_182 0 20 (dk_at dksX13_value_0 14 rfl rfl)
theorem dX13_value_17 : decode cX13_value 17 = .ok (.istore_n 3, 1) := dk_62 (dk_at dksX13_value_0 17 rfl rfl)
theorem dX13_value_18 : decode cX13_value 18 = .ok (.aload_n 0, 1) := dk_42 (dk_at dksX13_value_0 18 rfl rfl)
theorem dX13_value_19 : decode cX13_value 19 = .ok (.getfield 7, 3) := dk_180 0 7 (dk_at dksX13_value_0 19 rfl rfl)
theorem dX13_value_22 : decode cX13_value 22 = .ok (.tableswitch 228 37 62 #[152, 211, 228, 228, 228, 126, 118, 228, 122, 228, 130, 228, 228, 228, 228, 228, 228, 228, 228, 228, 228, 228, 228, 169, 183, 197], 118) := by decide +kernel
theorem dX13_value_140 : decode cX13_value 140 = .ok (.iload_n 2, 1) := dk_28 (dk_at dksX13_value_2 0 rfl rfl)
theorem dX13_value_141 : decode cX13_value 141 = .ok (.iload_n 3, 1) := dk_29 (dk_at dksX13_value_2 1 rfl rfl)
theorem dX13_value_142 : decode cX13_value 142 = .ok (.iadd, 1) := dk_96 (dk_at dksX13_value_2 2 rfl rfl)
theorem dX13_value_143 : decode cX13_value 143 = .ok (.ireturn, 1) := dk_172 (dk_at dksX13_value_2 3 rfl rfl)
theorem dX13_value_144 : decode cX13_value 144 = .ok (.iload_n 2, 1) := dk_28 (dk_at dksX13_value_2 4 rfl rfl)
theorem dX13_value_145 : decode cX13_value 145 = .ok (.iload_n 3, 1) := dk_29 (dk_at dksX13_value_2 5 rfl rfl)
theorem dX13_value_146 : decode cX13_value 146 = .ok (.isub, 1) := dk_100 (dk_at dksX13_value_2 6 rfl rfl)
theorem dX13_value_147 : decode cX13_value 147 = .ok (.ireturn, 1) := dk_172 (dk_at dksX13_value_2 7 rfl rfl)
theorem dX13_value_148 : decode cX13_value 148 = .ok (.iload_n 2, 1) := dk_28 (dk_at dksX13_value_2 8 rfl rfl)
theorem dX13_value_149 : decode cX13_value 149 = .ok (.iload_n 3, 1) := dk_29 (dk_at dksX13_value_2 9 rfl rfl)
theorem dX13_value_150 : decode cX13_value 150 = .ok (.imul, 1) := dk_104 (dk_at dksX13_value_2 10 rfl rfl)
theorem dX13_value_151 : decode cX13_value 151 = .ok (.ireturn, 1) := dk_172 (dk_at dksX13_value_2 11 rfl rfl)
theorem dX13_value_152 : decode cX13_value 152 = .ok (.iload_n 3, 1) := dk_29 (dk_at dksX13_value_2 12 rfl rfl)
theorem dX13_value_153 : decode cX13_value 153 = .ok (.ifCond .ne 7, 3) := dk_154 0 7 (dk_at dksX13_value_2 13 rfl rfl)
theorem dX13_value_156 : decode cX13_value 156 = .ok (.iconst 0, 1) := dk_3 (dk_at dksX13_value_2 16 rfl rfl)
theorem dX13_value_157 : decode cX13_value 157 = .ok (.goto 16, 3) := dk_167 0 16 (dk_at dksX13_value_2 17 rfl rfl)
theorem dX13_value_160 : decode cX13_value 160 = .ok (.iload_n 3, 1) := dk_29 (dk_at dksX13_value_2 20 rfl rfl)
theorem dX13_value_161 : decode cX13_value 161 = .ok (.iconst (-1), 1) := dk_2 (dk_at dksX13_value_2 21 rfl rfl)
theorem dX13_value_162 : decode cX13_value 162 = .ok (.if_icmp .ne 8, 3) := dk_160 0 8 (dk_at dksX13_value_3 0 rfl rfl)
theorem dX13_value_165 : decode cX13_value 165 = .ok (.iload_n 2, 1) := dk_28 (dk_at dksX13_value_3 3 rfl rfl)
theorem dX13_value_166 : decode cX13_value 166 = .ok (.ineg, 1) := dk_116 (dk_at dksX13_value_3 4 rfl rfl)
theorem dX13_value_167 : decode cX13_value 167 = .ok (.goto 6, 3) := dk_167 0 6 (dk_at dksX13_value_3 5 rfl rfl)
theorem dX13_value_170 : decode cX13_value 170 = .ok (.iload_n 2, 1) := dk_28 (dk_at dksX13_value_3 8 rfl rfl)
theorem dX13_value_171 : decode cX13_value 171 = .ok (.iload_n 3, 1) := dk_29 (dk_at dksX13_value_3 9 rfl rfl)
theorem dX13_value_172 : decode cX13_value 172 = .ok (.idiv, 1) := dk_108 (dk_at dksX13_value_3 10 rfl rfl)
theorem dX13_value_173 : decode cX13_value 173 = .ok (.ireturn, 1) := dk_172 (dk_at dksX13_value_3 11 rfl rfl)
theorem dX13_value_174 : decode cX13_value 174 = .ok (.iload_n 3, 1) := dk_29 (dk_at dksX13_value_3 12 rfl rfl)
theorem dX13_value_175 : decode cX13_value 175 = .ok (.ifCond .eq 8, 3) := dk_153 0 8 (dk_at dksX13_value_3 13 rfl rfl)
theorem dX13_value_178 : decode cX13_value 178 = .ok (.iload_n 3, 1) := dk_29 (dk_at dksX13_value_3 16 rfl rfl)
theorem dX13_value_179 : decode cX13_value 179 = .ok (.iconst (-1), 1) := dk_2 (dk_at dksX13_value_3 17 rfl rfl)
theorem dX13_value_180 : decode cX13_value 180 = .ok (.if_icmp .ne 7, 3) := dk_160 0 7 (dk_at dksX13_value_3 18 rfl rfl)
theorem dX13_value_183 : decode cX13_value 183 = .ok (.iconst 0, 1) := dk_3 (dk_at dksX13_value_3 21 rfl rfl)
theorem dX13_value_184 : decode cX13_value 184 = .ok (.goto 6, 3) := dk_167 0 6 (dk_at dksX13_value_4 0 rfl rfl)
theorem dX13_value_187 : decode cX13_value 187 = .ok (.iload_n 2, 1) := dk_28 (dk_at dksX13_value_4 3 rfl rfl)
theorem dX13_value_188 : decode cX13_value 188 = .ok (.iload_n 3, 1) := dk_29 (dk_at dksX13_value_4 4 rfl rfl)
theorem dX13_value_189 : decode cX13_value 189 = .ok (.irem, 1) := dk_112 (dk_at dksX13_value_4 5 rfl rfl)
theorem dX13_value_190 : decode cX13_value 190 = .ok (.ireturn, 1) := dk_172 (dk_at dksX13_value_4 6 rfl rfl)
theorem dX13_value_191 : decode cX13_value 191 = .ok (.iload_n 2, 1) := dk_28 (dk_at dksX13_value_4 7 rfl rfl)
theorem dX13_value_192 : decode cX13_value 192 = .ok (.iload_n 3, 1) := dk_29 (dk_at dksX13_value_4 8 rfl rfl)
theorem dX13_value_193 : decode cX13_value 193 = .ok (.if_icmp .ge 7, 3) := dk_162 0 7 (dk_at dksX13_value_4 9 rfl rfl)
theorem dX13_value_196 : decode cX13_value 196 = .ok (.iconst 1, 1) := dk_4 (dk_at dksX13_value_4 12 rfl rfl)
theorem dX13_value_197 : decode cX13_value 197 = .ok (.goto 4, 3) := dk_167 0 4 (dk_at dksX13_value_4 13 rfl rfl)
theorem dX13_value_200 : decode cX13_value 200 = .ok (.iconst 0, 1) := dk_3 (dk_at dksX13_value_4 16 rfl rfl)
theorem dX13_value_201 : decode cX13_value 201 = .ok (.invokestatic 24, 3) := dk_184 0 24 (dk_at dksX13_value_4 17 rfl rfl)
theorem dX13_value_204 : decode cX13_value 204 = .ok (.ireturn, 1) := dk_172 (dk_at dksX13_value_4 20 rfl rfl)
theorem dX13_value_205 : decode cX13_value 205 = .ok (.iload_n 2, 1) := dk_28 (dk_at dksX13_value_4 21 rfl rfl)
theorem dX13_value_206 : decode cX13_value 206 = .ok (.iload_n 3, 1) := dk_29 (dk_at dksX13_value_4 22 rfl rfl)
theorem dX13_value_207 : decode cX13_value 207 = .ok (.if_icmp .ne 7, 3) := dk_160 0 7 (dk_at dksX13_value_5 0 rfl rfl)
theorem dX13_value_210 : decode cX13_value 210 = .ok (.iconst 1, 1) := dk_4 (dk_at dksX13_value_5 3 rfl rfl)
theorem dX13_value_211 : decode cX13_value 211 = .ok (.goto 4, 3) := dk_167 0 4 (dk_at dksX13_value_5 4 rfl rfl)
theorem dX13_value_214 : decode cX13_value 214 = .ok (.iconst 0, 1) := dk_3 (dk_at dksX13_value_5 7 rfl rfl)
theorem dX13_value_215 : decode cX13_value 215 = .ok (.invokestatic 24, 3) := dk_184 0 24 (dk_at dksX13_value_5 8 rfl rfl)
theorem dX13_value_218 : decode cX13_value 218 = .ok (.ireturn, 1) := dk_172 (dk_at dksX13_value_5 11 rfl rfl)
theorem dX13_value_219 : decode cX13_value 219 = .ok (.iload_n 2, 1) := dk_28 (dk_at dksX13_value_5 12 rfl rfl)
theorem dX13_value_220 : decode cX13_value 220 = .ok (.iload_n 3, 1) := dk_29 (dk_at dksX13_value_5 13 rfl rfl)
theorem dX13_value_221 : decode cX13_value 221 = .ok (.if_icmp .le 7, 3) := dk_164 0 7 (dk_at dksX13_value_5 14 rfl rfl)
theorem dX13_value_224 : decode cX13_value 224 = .ok (.iconst 1, 1) := dk_4 (dk_at dksX13_value_5 17 rfl rfl)
theorem dX13_value_225 : decode cX13_value 225 = .ok (.goto 4, 3) := dk_167 0 4 (dk_at dksX13_value_5 18 rfl rfl)
theorem dX13_value_228 : decode cX13_value 228 = .ok (.iconst 0, 1) := dk_3 (dk_at dksX13_value_5 21 rfl rfl)
theorem dX13_value_229 : decode cX13_value 229 = .ok (.invokestatic 24, 3) := dk_184 0 24 (dk_at dksX13_value_6 0 rfl rfl)
theorem dX13_value_232 : decode cX13_value 232 = .ok (.ireturn, 1) := dk_172 (dk_at dksX13_value_6 3 rfl rfl)
theorem dX13_value_233 : decode cX13_value 233 = .ok (.iload_n 2, 1) := dk_28 (dk_at dksX13_value_6 4 rfl rfl)
theorem dX13_value_234 : decode cX13_value 234 = .ok (.ifCond .eq 11, 3) := dk_153 0 11 (dk_at dksX13_value_6 5 rfl rfl)
theorem dX13_value_237 : decode cX13_value 237 = .ok (.iload_n 3, 1) := dk_29 (dk_at dksX13_value_6 8 rfl rfl)
theorem dX13_value_238 : decode cX13_value 238 = .ok (.ifCond .eq 7, 3) := dk_153 0 7 (dk_at dksX13_value_6 9 rfl rfl)
theorem dX13_value_241 : decode cX13_value 241 = .ok (.iconst 1, 1) := dk_4 (dk_at dksX13_value_6 12 rfl rfl)
theorem dX13_value_242 : decode cX13_value 242 = .ok (.goto 4, 3) := dk_167 0 4 (dk_at dksX13_value_6 13 rfl rfl)
theorem dX13_value_245 : decode cX13_value 245 = .ok (.iconst 0, 1) := dk_3 (dk_at dksX13_value_6 16 rfl rfl)
theorem dX13_value_246 : decode cX13_value 246 = .ok (.invokestatic 24, 3) := dk_184 0 24 (dk_at dksX13_value_6 17 rfl rfl)
theorem dX13_value_249 : decode cX13_value 249 = .ok (.ireturn, 1) := dk_172 (dk_at dksX13_value_6 20 rfl rfl)
theorem dX13_value_250 : decode cX13_value 250 = .ok (.iload_n 2, 1) := dk_28 (dk_at dksX13_value_6 21 rfl rfl)
theorem dX13_value_251 : decode cX13_value 251 = .ok (.ifCond .ne 7, 3) := dk_154 0 7 (dk_at dksX13_value_7 0 rfl rfl)
theorem dX13_value_254 : decode cX13_value 254 = .ok (.iload_n 3, 1) := dk_29 (dk_at dksX13_value_7 3 rfl rfl)
theorem dX13_value_255 : decode cX13_value 255 = .ok (.ifCond .eq 7, 3) := dk_153 0 7 (dk_at dksX13_value_7 4 rfl rfl)
theorem dX13_value_258 : decode cX13_value 258 = .ok (.iconst 1, 1) := dk_4 (dk_at dksX13_value_7 7 rfl rfl)
theorem dX13_value_259 : decode cX13_value 259 = .ok (.goto 4, 3) := dk_167 0 4 (dk_at dksX13_value_7 8 rfl rfl)
theorem dX13_value_262 : decode cX13_value 262 = .ok (.iconst 0, 1) := dk_3 (dk_at dksX13_value_7 11 rfl rfl)
theorem dX13_value_263 : decode cX13_value 263 = .ok (.invokestatic 24, 3) := dk_184 0 24 (dk_at dksX13_value_7 12 rfl rfl)
theorem dX13_value_266 : decode cX13_value 266 = .ok (.ireturn, 1) := dk_172 (dk_at dksX13_value_7 15 rfl rfl)
abbrev cX13_is : ByteArray := prog_20_method_2_code
def yX13_is : MethodName := ⟨RX13, "is", "(Z)I"⟩
def dkwX13_is_0 : List UInt8 := [26, 153, 0, 7, 4, 167, 0, 4, 3, 172]
abbrev dktX13_is_0 : List UInt8 := dkwX13_is_0 ++ []
theorem dksX13_is_0 : cX13_is.data.toList.drop 0 = dktX13_is_0 := by decide +kernel
theorem dX13_is_0 : decode cX13_is 0 = .ok (.iload_n 0, 1) := dk_26 (dk_at dksX13_is_0 0 rfl rfl)
theorem dX13_is_1 : decode cX13_is 1 = .ok (.ifCond .eq 7, 3) := dk_153 0 7 (dk_at dksX13_is_0 1 rfl rfl)
theorem dX13_is_4 : decode cX13_is 4 = .ok (.iconst 1, 1) := dk_4 (dk_at dksX13_is_0 4 rfl rfl)
theorem dX13_is_5 : decode cX13_is 5 = .ok (.goto 4, 3) := dk_167 0 4 (dk_at dksX13_is_0 5 rfl rfl)
theorem dX13_is_8 : decode cX13_is 8 = .ok (.iconst 0, 1) := dk_3 (dk_at dksX13_is_0 8 rfl rfl)
theorem dX13_is_9 : decode cX13_is 9 = .ok (.ireturn, 1) := dk_172 (dk_at dksX13_is_0 9 rfl rfl)
theorem q108 : (Jvm.Cond.initialized "PointsForAll$Pair") ∈ lw_all := lw_g (lw_at lw_m1 27 rfl) rfl
theorem q757 : (Jvm.Cond.instantiable "PointsForAll$Pair" (3 : Nat)) ∈ lw_all := lw_g (lw_at lw_m3 196 rfl) rfl
theorem q759 : (Jvm.Cond.instanceMethod ({ cls := "PointsForAll$Pair", name := "<init>", desc := "(ILPointsForAll$Node;LPointsForAll$Node;)V" } : Jvm.MethodName)) ∈ lw_all := lw_g (lw_at lw_m3 198 rfl) rfl
theorem q760 : (Jvm.Cond.code ({ cls := "PointsForAll$Pair", name := "<init>", desc := "(ILPointsForAll$Node;LPointsForAll$Node;)V" } : Jvm.MethodName) prog_20_method_1_code (4 : Nat) (Option.none : Option Jvm.ClassFile.FieldType)) ∈ lw_all := lw_g (lw_at lw_m3 199 rfl) rfl
theorem q761 : (Jvm.Cond.methodLinkNest "PointsForAll$Pair" (1 : Nat) ({ cls := "PointsForAll$Node", name := "<init>", desc := "()V" } : Jvm.MethodName) "PointsForAll") ∈ lw_tbl := lw_at lw_m3 200 rfl
theorem q762 : (Jvm.Cond.fieldLink "PointsForAll$Pair" (7 : Nat) "PointsForAll$Pair" "sign" "I") ∈ lw_all := lw_g (lw_at lw_m3 201 rfl) rfl
theorem q763 : (Jvm.Cond.fieldLink "PointsForAll$Pair" (13 : Nat) "PointsForAll$Pair" "left" "LPointsForAll$Node;") ∈ lw_all := lw_g (lw_at lw_m3 202 rfl) rfl
theorem q764 : (Jvm.Cond.fieldLink "PointsForAll$Pair" (17 : Nat) "PointsForAll$Pair" "right" "LPointsForAll$Node;") ∈ lw_all := lw_g (lw_at lw_m3 203 rfl) rfl
theorem q765 : (Jvm.Cond.laysFinal "PointsForAll$Pair" "PointsForAll$Pair" "sign" "I") ∈ lw_all := lw_g (lw_at lw_m3 204 rfl) rfl
theorem q766 : (Jvm.Cond.soleField "PointsForAll$Pair" "sign") ∈ lw_all := lw_g (lw_at lw_m3 205 rfl) rfl
theorem q767 : (Jvm.Cond.laysFinal "PointsForAll$Pair" "PointsForAll$Pair" "left" "LPointsForAll$Node;") ∈ lw_all := lw_g (lw_at lw_m3 206 rfl) rfl
theorem q768 : (Jvm.Cond.soleField "PointsForAll$Pair" "left") ∈ lw_all := lw_g (lw_at lw_m3 207 rfl) rfl
theorem q769 : (Jvm.Cond.laysFinal "PointsForAll$Pair" "PointsForAll$Pair" "right" "LPointsForAll$Node;") ∈ lw_all := lw_g (lw_at lw_m3 208 rfl) rfl
theorem q770 : (Jvm.Cond.soleField "PointsForAll$Pair" "right") ∈ lw_all := lw_g (lw_at lw_m3 209 rfl) rfl
theorem q771 : (Jvm.Cond.superclass "PointsForAll$Pair" "PointsForAll$Node") ∈ lw_all := lw_g (lw_at lw_m3 210 rfl) rfl
theorem q797 : (Jvm.Cond.instanceMethod ({ cls := "PointsForAll$Pair", name := "value", desc := "(LPointsForAll$Facts;)I" } : Jvm.MethodName)) ∈ lw_all := lw_g (lw_at lw_m3 236 rfl) rfl
theorem q798 : (Jvm.Cond.code ({ cls := "PointsForAll$Pair", name := "value", desc := "(LPointsForAll$Facts;)I" } : Jvm.MethodName) prog_20_method_3_code (4 : Nat) (Option.some Jvm.ClassFile.FieldType.int)) ∈ lw_all := lw_g (lw_at lw_m3 237 rfl) rfl
theorem q799 : (Jvm.Cond.methodLink "PointsForAll$Pair" (20 : Nat) ({ cls := "PointsForAll$Node", name := "value", desc := "(LPointsForAll$Facts;)I" } : Jvm.MethodName)) ∈ lw_all := lw_g (lw_at lw_m3 238 rfl) rfl
theorem q803 : (Jvm.Cond.methodLink "PointsForAll$Pair" (24 : Nat) ({ cls := "PointsForAll$Pair", name := "is", desc := "(Z)I" } : Jvm.MethodName)) ∈ lw_all := lw_g (lw_at lw_m4 2 rfl) rfl
theorem q804 : (Jvm.Cond.static ({ cls := "PointsForAll$Pair", name := "is", desc := "(Z)I" } : Jvm.MethodName)) ∈ lw_all := lw_g (lw_at lw_m4 3 rfl) rfl
theorem q805 : (Jvm.Cond.code ({ cls := "PointsForAll$Pair", name := "is", desc := "(Z)I" } : Jvm.MethodName) prog_20_method_2_code (1 : Nat) (Option.some Jvm.ClassFile.FieldType.int)) ∈ lw_all := lw_g (lw_at lw_m4 4 rfl) rfl
theorem q808 : (Jvm.Cond.selects "PointsForAll$Pair" ({ cls := "PointsForAll$Node", name := "value", desc := "(LPointsForAll$Facts;)I" } : Jvm.MethodName) ({ cls := "PointsForAll$Pair", name := "value", desc := "(LPointsForAll$Facts;)I" } : Jvm.MethodName)) ∈ lw_all := lw_g (lw_at lw_m4 7 rfl) rfl
theorem in_X13 : ∀ w ∈ wsX130, w ∈ lw_all := lw_in wsX130 [765, 767, 769] (by decide +kernel) (by decide +kernel)

/-! PointsForAll$Held -/
set_option maxRecDepth 100000
def RX14 : String := "PointsForAll$Held"
abbrev cX14_init : ByteArray := prog_12_method_1_code
def yX14_init : MethodName := ⟨RX14, "<init>", "()V"⟩
theorem dX14_init_0 : decode cX14_init 0 = .ok (.aload_n 0, 1) := by decide +kernel
theorem dX14_init_1 : decode cX14_init 1 = .ok (.invokespecial 1, 3) := by decide +kernel
theorem dX14_init_4 : decode cX14_init 4 = .ok (.return_, 1) := by decide +kernel
theorem q110 : (Jvm.Cond.initialized "PointsForAll$Held") ∈ lw_all := lw_g (lw_at lw_m1 29 rfl) rfl
theorem q985 : (Jvm.Cond.instanceMethod ({ cls := "PointsForAll$Held", name := "<init>", desc := "()V" } : Jvm.MethodName)) ∈ lw_all := lw_g (lw_at lw_m4 184 rfl) rfl
theorem q986 : (Jvm.Cond.code ({ cls := "PointsForAll$Held", name := "<init>", desc := "()V" } : Jvm.MethodName) prog_12_method_1_code (1 : Nat) (Option.none : Option Jvm.ClassFile.FieldType)) ∈ lw_all := lw_g (lw_at lw_m4 185 rfl) rfl
theorem q987 : (Jvm.Cond.methodLink "PointsForAll$Held" (1 : Nat) ({ cls := "java/lang/Object", name := "<init>", desc := "()V" } : Jvm.MethodName)) ∈ lw_all := lw_g (lw_at lw_m4 186 rfl) rfl

/-! PointsForAll$Purse -/
set_option maxRecDepth 100000
def RX15 : String := "PointsForAll$Purse"
def TX15 : u_T := fun k => match k with
  | 0 => ("PointsForAll$Purse", "number", "I", true)
  | _ => ("PointsForAll$Purse", "this$0", "LPointsForAll;", true)
def tyX15 : Nat → FieldType := fun k => match k with
  | 0 => .int
  | _ => .object "PointsForAll"
abbrev wsX150 : List Cond := u_ws RX15 TX15 2
theorem nmX15 : ∀ a, a < 2 → ∀ b, b < 2 → a ≠ b → (TX15 a).2.1 ≠ (TX15 b).2.1 := by decide +kernel
theorem tyX15_ok : ∀ k, k < 2 → parseFieldDescriptor (TX15 k).2.2.1 = some (tyX15 k) := by decide +kernel
abbrev cX15_init : ByteArray := prog_22_method_1_code
def yX15_init : MethodName := ⟨RX15, "<init>", "(LPointsForAll;I)V"⟩
def dkwX15_init_0 : List UInt8 := [42, 43, 181, 0, 3, 42, 183, 0, 9, 42, 28, 181, 0, 15, 177]
abbrev dktX15_init_0 : List UInt8 := dkwX15_init_0 ++ []
theorem dksX15_init_0 : cX15_init.data.toList.drop 0 = dktX15_init_0 := by decide +kernel
theorem dX15_init_0 : decode cX15_init 0 = .ok (.aload_n 0, 1) := dk_42 (dk_at dksX15_init_0 0 rfl rfl)
theorem dX15_init_1 : decode cX15_init 1 = .ok (.aload_n 1, 1) := dk_43 (dk_at dksX15_init_0 1 rfl rfl)
theorem dX15_init_2 : decode cX15_init 2 = .ok (.putfield 3, 3) := dk_181 0 3 (dk_at dksX15_init_0 2 rfl rfl)
theorem dX15_init_5 : decode cX15_init 5 = .ok (.aload_n 0, 1) := dk_42 (dk_at dksX15_init_0 5 rfl rfl)
theorem dX15_init_6 : decode cX15_init 6 = .ok (.invokespecial 9, 3) := dk_183 0 9 (dk_at dksX15_init_0 6 rfl rfl)
theorem dX15_init_9 : decode cX15_init 9 = .ok (.aload_n 0, 1) := dk_42 (dk_at dksX15_init_0 9 rfl rfl)
theorem dX15_init_10 : decode cX15_init 10 = .ok (.iload_n 2, 1) := dk_28 (dk_at dksX15_init_0 10 rfl rfl)
theorem dX15_init_11 : decode cX15_init 11 = .ok (.putfield 15, 3) := dk_181 0 15 (dk_at dksX15_init_0 11 rfl rfl)
theorem dX15_init_14 : decode cX15_init 14 = .ok (.return_, 1) := dk_177 (dk_at dksX15_init_0 14 rfl rfl)
abbrev cX15_buys : ByteArray := prog_22_method_5_code
def yX15_buys : MethodName := ⟨RX15, "buys", "(I)I"⟩
def dkwX15_buys_0 : List UInt8 := [42, 180, 0, 3, 4, 182, 0, 23, 27, 42, 180, 0, 15, 96, 172]
abbrev dktX15_buys_0 : List UInt8 := dkwX15_buys_0 ++ []
theorem dksX15_buys_0 : cX15_buys.data.toList.drop 0 = dktX15_buys_0 := by decide +kernel
theorem dX15_buys_0 : decode cX15_buys 0 = .ok (.aload_n 0, 1) := dk_42 (dk_at dksX15_buys_0 0 rfl rfl)
theorem dX15_buys_1 : decode cX15_buys 1 = .ok (.getfield 3, 3) := dk_180 0 3 (dk_at dksX15_buys_0 1 rfl rfl)
theorem dX15_buys_4 : decode cX15_buys 4 = .ok (.iconst 1, 1) := dk_4 (dk_at dksX15_buys_0 4 rfl rfl)
theorem dX15_buys_5 : decode cX15_buys 5 = .ok (.invokevirtual 23, 3) := dk_182 0 23 (dk_at dksX15_buys_0 5 rfl rfl)
theorem dX15_buys_8 : decode cX15_buys 8 = .ok (.iload_n 1, 1) := dk_27 (dk_at dksX15_buys_0 8 rfl rfl)
theorem dX15_buys_9 : decode cX15_buys 9 = .ok (.aload_n 0, 1) := dk_42 (dk_at dksX15_buys_0 9 rfl rfl)
theorem dX15_buys_10 : decode cX15_buys 10 = .ok (.getfield 15, 3) := dk_180 0 15 (dk_at dksX15_buys_0 10 rfl rfl)
theorem dX15_buys_13 : decode cX15_buys 13 = .ok (.iadd, 1) := dk_96 (dk_at dksX15_buys_0 13 rfl rfl)
theorem dX15_buys_14 : decode cX15_buys 14 = .ok (.ireturn, 1) := dk_172 (dk_at dksX15_buys_0 14 rfl rfl)
abbrev cX15_tells : ByteArray := prog_22_method_8_code
def yX15_tells : MethodName := ⟨RX15, "tells", "(I)I"⟩
def dkwX15_tells_0 : List UInt8 := [42, 180, 0, 3, 5, 182, 0, 23, 42, 27, 182, 0, 31, 61, 28, 42, 4, 182, 0, 34, 100, 172]
abbrev dktX15_tells_0 : List UInt8 := dkwX15_tells_0 ++ []
theorem dksX15_tells_0 : cX15_tells.data.toList.drop 0 = dktX15_tells_0 := by decide +kernel
theorem dX15_tells_0 : decode cX15_tells 0 = .ok (.aload_n 0, 1) := dk_42 (dk_at dksX15_tells_0 0 rfl rfl)
theorem dX15_tells_1 : decode cX15_tells 1 = .ok (.getfield 3, 3) := dk_180 0 3 (dk_at dksX15_tells_0 1 rfl rfl)
theorem dX15_tells_4 : decode cX15_tells 4 = .ok (.iconst 2, 1) := dk_5 (dk_at dksX15_tells_0 4 rfl rfl)
theorem dX15_tells_5 : decode cX15_tells 5 = .ok (.invokevirtual 23, 3) := dk_182 0 23 (dk_at dksX15_tells_0 5 rfl rfl)
theorem dX15_tells_8 : decode cX15_tells 8 = .ok (.aload_n 0, 1) := dk_42 (dk_at dksX15_tells_0 8 rfl rfl)
theorem dX15_tells_9 : decode cX15_tells 9 = .ok (.iload_n 1, 1) := dk_27 (dk_at dksX15_tells_0 9 rfl rfl)
theorem dX15_tells_10 : decode cX15_tells 10 = .ok (.invokevirtual 31, 3) := dk_182 0 31 (dk_at dksX15_tells_0 10 rfl rfl)
theorem dX15_tells_13 : decode cX15_tells 13 = .ok (.istore_n 2, 1) := dk_61 (dk_at dksX15_tells_0 13 rfl rfl)
theorem dX15_tells_14 : decode cX15_tells 14 = .ok (.iload_n 2, 1) := dk_28 (dk_at dksX15_tells_0 14 rfl rfl)
theorem dX15_tells_15 : decode cX15_tells 15 = .ok (.aload_n 0, 1) := dk_42 (dk_at dksX15_tells_0 15 rfl rfl)
theorem dX15_tells_16 : decode cX15_tells 16 = .ok (.iconst 1, 1) := dk_4 (dk_at dksX15_tells_0 16 rfl rfl)
theorem dX15_tells_17 : decode cX15_tells 17 = .ok (.invokevirtual 34, 3) := dk_182 0 34 (dk_at dksX15_tells_0 17 rfl rfl)
theorem dX15_tells_20 : decode cX15_tells 20 = .ok (.isub, 1) := dk_100 (dk_at dksX15_tells_0 20 rfl rfl)
theorem dX15_tells_21 : decode cX15_tells 21 = .ok (.ireturn, 1) := dk_172 (dk_at dksX15_tells_0 21 rfl rfl)
abbrev cX15_lends : ByteArray := prog_22_method_7_code
def yX15_lends : MethodName := ⟨RX15, "lends", "(I)I"⟩
def dkwX15_lends_0 : List UInt8 := [42, 180, 0, 3, 16, 11, 182, 0, 23, 27, 42, 180, 0, 15, 130, 172]
abbrev dktX15_lends_0 : List UInt8 := dkwX15_lends_0 ++ []
theorem dksX15_lends_0 : cX15_lends.data.toList.drop 0 = dktX15_lends_0 := by decide +kernel
theorem dX15_lends_0 : decode cX15_lends 0 = .ok (.aload_n 0, 1) := dk_42 (dk_at dksX15_lends_0 0 rfl rfl)
theorem dX15_lends_1 : decode cX15_lends 1 = .ok (.getfield 3, 3) := dk_180 0 3 (dk_at dksX15_lends_0 1 rfl rfl)
theorem dX15_lends_4 : decode cX15_lends 4 = .ok (.bipush 11, 2) := dk_16 11 (dk_at dksX15_lends_0 4 rfl rfl)
theorem dX15_lends_6 : decode cX15_lends 6 = .ok (.invokevirtual 23, 3) := dk_182 0 23 (dk_at dksX15_lends_0 6 rfl rfl)
theorem dX15_lends_9 : decode cX15_lends 9 = .ok (.iload_n 1, 1) := dk_27 (dk_at dksX15_lends_0 9 rfl rfl)
theorem dX15_lends_10 : decode cX15_lends 10 = .ok (.aload_n 0, 1) := dk_42 (dk_at dksX15_lends_0 10 rfl rfl)
theorem dX15_lends_11 : decode cX15_lends 11 = .ok (.getfield 15, 3) := dk_180 0 15 (dk_at dksX15_lends_0 11 rfl rfl)
theorem dX15_lends_14 : decode cX15_lends 14 = .ok (.ixor, 1) := dk_130 (dk_at dksX15_lends_0 14 rfl rfl)
theorem dX15_lends_15 : decode cX15_lends 15 = .ok (.ireturn, 1) := dk_172 (dk_at dksX15_lends_0 15 rfl rfl)
abbrev cX15_keeps : ByteArray := prog_22_method_6_code
def yX15_keeps : MethodName := ⟨RX15, "keeps", "(I)I"⟩
def dkwX15_keeps_0 : List UInt8 := [42, 180, 0, 3, 16, 10, 182, 0, 23, 42, 27, 182, 0, 27, 5, 104, 172]
abbrev dktX15_keeps_0 : List UInt8 := dkwX15_keeps_0 ++ []
theorem dksX15_keeps_0 : cX15_keeps.data.toList.drop 0 = dktX15_keeps_0 := by decide +kernel
theorem dX15_keeps_0 : decode cX15_keeps 0 = .ok (.aload_n 0, 1) := dk_42 (dk_at dksX15_keeps_0 0 rfl rfl)
theorem dX15_keeps_1 : decode cX15_keeps 1 = .ok (.getfield 3, 3) := dk_180 0 3 (dk_at dksX15_keeps_0 1 rfl rfl)
theorem dX15_keeps_4 : decode cX15_keeps 4 = .ok (.bipush 10, 2) := dk_16 10 (dk_at dksX15_keeps_0 4 rfl rfl)
theorem dX15_keeps_6 : decode cX15_keeps 6 = .ok (.invokevirtual 23, 3) := dk_182 0 23 (dk_at dksX15_keeps_0 6 rfl rfl)
theorem dX15_keeps_9 : decode cX15_keeps 9 = .ok (.aload_n 0, 1) := dk_42 (dk_at dksX15_keeps_0 9 rfl rfl)
theorem dX15_keeps_10 : decode cX15_keeps 10 = .ok (.iload_n 1, 1) := dk_27 (dk_at dksX15_keeps_0 10 rfl rfl)
theorem dX15_keeps_11 : decode cX15_keeps 11 = .ok (.invokevirtual 27, 3) := dk_182 0 27 (dk_at dksX15_keeps_0 11 rfl rfl)
theorem dX15_keeps_14 : decode cX15_keeps 14 = .ok (.iconst 2, 1) := dk_5 (dk_at dksX15_keeps_0 14 rfl rfl)
theorem dX15_keeps_15 : decode cX15_keeps 15 = .ok (.imul, 1) := dk_104 (dk_at dksX15_keeps_0 15 rfl rfl)
theorem dX15_keeps_16 : decode cX15_keeps 16 = .ok (.ireturn, 1) := dk_172 (dk_at dksX15_keeps_0 16 rfl rfl)
abbrev cX15_isUnder : ByteArray := prog_22_method_4_code
def yX15_isUnder : MethodName := ⟨RX15, "isUnder", "(I)Z"⟩
def dkwX15_isUnder_0 : List UInt8 := [27, 153, 0, 11, 27, 42, 182, 0, 19, 160, 0, 7, 4, 167, 0, 4, 3, 172]
abbrev dktX15_isUnder_0 : List UInt8 := dkwX15_isUnder_0 ++ []
theorem dksX15_isUnder_0 : cX15_isUnder.data.toList.drop 0 = dktX15_isUnder_0 := by decide +kernel
theorem dX15_isUnder_0 : decode cX15_isUnder 0 = .ok (.iload_n 1, 1) := dk_27 (dk_at dksX15_isUnder_0 0 rfl rfl)
theorem dX15_isUnder_1 : decode cX15_isUnder 1 = .ok (.ifCond .eq 11, 3) := dk_153 0 11 (dk_at dksX15_isUnder_0 1 rfl rfl)
theorem dX15_isUnder_4 : decode cX15_isUnder 4 = .ok (.iload_n 1, 1) := dk_27 (dk_at dksX15_isUnder_0 4 rfl rfl)
theorem dX15_isUnder_5 : decode cX15_isUnder 5 = .ok (.aload_n 0, 1) := dk_42 (dk_at dksX15_isUnder_0 5 rfl rfl)
theorem dX15_isUnder_6 : decode cX15_isUnder 6 = .ok (.invokevirtual 19, 3) := dk_182 0 19 (dk_at dksX15_isUnder_0 6 rfl rfl)
theorem dX15_isUnder_9 : decode cX15_isUnder 9 = .ok (.if_icmp .ne 7, 3) := dk_160 0 7 (dk_at dksX15_isUnder_0 9 rfl rfl)
theorem dX15_isUnder_12 : decode cX15_isUnder 12 = .ok (.iconst 1, 1) := dk_4 (dk_at dksX15_isUnder_0 12 rfl rfl)
theorem dX15_isUnder_13 : decode cX15_isUnder 13 = .ok (.goto 4, 3) := dk_167 0 4 (dk_at dksX15_isUnder_0 13 rfl rfl)
theorem dX15_isUnder_16 : decode cX15_isUnder 16 = .ok (.iconst 0, 1) := dk_3 (dk_at dksX15_isUnder_0 16 rfl rfl)
theorem dX15_isUnder_17 : decode cX15_isUnder 17 = .ok (.ireturn, 1) := dk_172 (dk_at dksX15_isUnder_0 17 rfl rfl)
abbrev cX15_kind : ByteArray := prog_22_method_3_code
def yX15_kind : MethodName := ⟨RX15, "kind", "()I"⟩
theorem dX15_kind_0 : decode cX15_kind 0 = .ok (.iconst 0, 1) := by decide +kernel
theorem dX15_kind_1 : decode cX15_kind 1 = .ok (.ireturn, 1) := by decide +kernel
theorem q111 : (Jvm.Cond.initialized "PointsForAll$Purse") ∈ lw_all := lw_g (lw_at lw_m1 30 rfl) rfl
theorem q982 : (Jvm.Cond.instanceMethod ({ cls := "PointsForAll$Purse", name := "<init>", desc := "(LPointsForAll;I)V" } : Jvm.MethodName)) ∈ lw_all := lw_g (lw_at lw_m4 181 rfl) rfl
theorem q983 : (Jvm.Cond.code ({ cls := "PointsForAll$Purse", name := "<init>", desc := "(LPointsForAll;I)V" } : Jvm.MethodName) prog_22_method_1_code (3 : Nat) (Option.none : Option Jvm.ClassFile.FieldType)) ∈ lw_all := lw_g (lw_at lw_m4 182 rfl) rfl
theorem q984 : (Jvm.Cond.methodLinkNest "PointsForAll$Purse" (9 : Nat) ({ cls := "PointsForAll$Held", name := "<init>", desc := "()V" } : Jvm.MethodName) "PointsForAll") ∈ lw_tbl := lw_at lw_m4 183 rfl
theorem q989 : (Jvm.Cond.fieldLink "PointsForAll$Purse" (15 : Nat) "PointsForAll$Purse" "number" "I") ∈ lw_all := lw_g (lw_at lw_m4 188 rfl) rfl
theorem q990 : (Jvm.Cond.fieldLink "PointsForAll$Purse" (3 : Nat) "PointsForAll$Purse" "this$0" "LPointsForAll;") ∈ lw_all := lw_g (lw_at lw_m4 189 rfl) rfl
theorem q994 : (Jvm.Cond.soleField "PointsForAll$Purse" "number") ∈ lw_all := lw_g (lw_at lw_m4 193 rfl) rfl
theorem q996 : (Jvm.Cond.soleField "PointsForAll$Purse" "this$0") ∈ lw_all := lw_g (lw_at lw_m4 195 rfl) rfl
theorem q1076 : (Jvm.Cond.instantiable "PointsForAll$Purse" (2 : Nat)) ∈ lw_all := lw_g (lw_at lw_m5 35 rfl) rfl
theorem q1078 : (Jvm.Cond.laysFinal "PointsForAll$Purse" "PointsForAll$Purse" "number" "I") ∈ lw_all := lw_g (lw_at lw_m5 37 rfl) rfl
theorem q1079 : (Jvm.Cond.laysFinal "PointsForAll$Purse" "PointsForAll$Purse" "this$0" "LPointsForAll;") ∈ lw_all := lw_g (lw_at lw_m5 38 rfl) rfl
theorem q1080 : (Jvm.Cond.superclass "PointsForAll$Purse" "PointsForAll$Held") ∈ lw_all := lw_g (lw_at lw_m5 39 rfl) rfl
theorem q1105 : (Jvm.Cond.declares ({ cls := "PointsForAll$Purse", name := "buys", desc := "(I)I" } : Jvm.MethodName)) ∈ lw_tbl := lw_at lw_m5 64 rfl
theorem q1106 : (Jvm.Cond.instanceMethod ({ cls := "PointsForAll$Purse", name := "buys", desc := "(I)I" } : Jvm.MethodName)) ∈ lw_all := lw_g (lw_at lw_m5 65 rfl) rfl
theorem q1107 : (Jvm.Cond.code ({ cls := "PointsForAll$Purse", name := "buys", desc := "(I)I" } : Jvm.MethodName) prog_22_method_5_code (2 : Nat) (Option.some Jvm.ClassFile.FieldType.int)) ∈ lw_all := lw_g (lw_at lw_m5 66 rfl) rfl
theorem q1108 : (Jvm.Cond.methodLinkNest "PointsForAll$Purse" (23 : Nat) ({ cls := "PointsForAll", name := "ran", desc := "(I)V" } : Jvm.MethodName) "PointsForAll") ∈ lw_tbl := lw_at lw_m5 67 rfl
theorem q1112 : (Jvm.Cond.publicMethod ({ cls := "PointsForAll$Purse", name := "buys", desc := "(I)I" } : Jvm.MethodName)) ∈ lw_tbl := lw_at lw_m5 71 rfl
theorem q1130 : (Jvm.Cond.castable "PointsForAll$Purse" "PointsForAll$Buys") ∈ lw_tbl := lw_at lw_m5 89 rfl
theorem q1131 : (Jvm.Cond.selects "PointsForAll$Purse" ({ cls := "PointsForAll$Buys", name := "buys", desc := "(I)I" } : Jvm.MethodName) ({ cls := "PointsForAll$Purse", name := "buys", desc := "(I)I" } : Jvm.MethodName)) ∈ lw_all := lw_g (lw_at lw_m5 90 rfl) rfl
theorem q1132 : (Jvm.Cond.unhidden "PointsForAll$Purse" "buys" "(I)I") ∈ lw_tbl := lw_at lw_m5 91 rfl
theorem q1153 : (Jvm.Cond.declares ({ cls := "PointsForAll$Purse", name := "tells", desc := "(I)I" } : Jvm.MethodName)) ∈ lw_tbl := lw_at lw_m5 112 rfl
theorem q1154 : (Jvm.Cond.instanceMethod ({ cls := "PointsForAll$Purse", name := "tells", desc := "(I)I" } : Jvm.MethodName)) ∈ lw_all := lw_g (lw_at lw_m5 113 rfl) rfl
theorem q1155 : (Jvm.Cond.code ({ cls := "PointsForAll$Purse", name := "tells", desc := "(I)I" } : Jvm.MethodName) prog_22_method_8_code (3 : Nat) (Option.some Jvm.ClassFile.FieldType.int)) ∈ lw_all := lw_g (lw_at lw_m5 114 rfl) rfl
theorem q1156 : (Jvm.Cond.methodLink "PointsForAll$Purse" (31 : Nat) ({ cls := "PointsForAll$Purse", name := "keeps", desc := "(I)I" } : Jvm.MethodName)) ∈ lw_all := lw_g (lw_at lw_m5 115 rfl) rfl
theorem q1157 : (Jvm.Cond.instanceMethod ({ cls := "PointsForAll$Purse", name := "keeps", desc := "(I)I" } : Jvm.MethodName)) ∈ lw_all := lw_g (lw_at lw_m5 116 rfl) rfl
theorem q1158 : (Jvm.Cond.selects "PointsForAll$Purse" ({ cls := "PointsForAll$Purse", name := "keeps", desc := "(I)I" } : Jvm.MethodName) ({ cls := "PointsForAll$Purse", name := "keeps", desc := "(I)I" } : Jvm.MethodName)) ∈ lw_all := lw_g (lw_at lw_m5 117 rfl) rfl
theorem q1159 : (Jvm.Cond.sameMethod "PointsForAll$Purse" "PointsForAll$Purse" "keeps" "(I)I") ∈ lw_all := lw_g (lw_at lw_m5 118 rfl) rfl
theorem q1181 : (Jvm.Cond.declares ({ cls := "PointsForAll$Purse", name := "lends", desc := "(I)I" } : Jvm.MethodName)) ∈ lw_tbl := lw_at lw_m5 140 rfl
theorem q1182 : (Jvm.Cond.instanceMethod ({ cls := "PointsForAll$Purse", name := "lends", desc := "(I)I" } : Jvm.MethodName)) ∈ lw_all := lw_g (lw_at lw_m5 141 rfl) rfl
theorem q1183 : (Jvm.Cond.code ({ cls := "PointsForAll$Purse", name := "lends", desc := "(I)I" } : Jvm.MethodName) prog_22_method_7_code (2 : Nat) (Option.some Jvm.ClassFile.FieldType.int)) ∈ lw_all := lw_g (lw_at lw_m5 142 rfl) rfl
theorem q1193 : (Jvm.Cond.code ({ cls := "PointsForAll$Purse", name := "keeps", desc := "(I)I" } : Jvm.MethodName) prog_22_method_6_code (2 : Nat) (Option.some Jvm.ClassFile.FieldType.int)) ∈ lw_all := lw_g (lw_at lw_m5 152 rfl) rfl
theorem q1194 : (Jvm.Cond.methodLink "PointsForAll$Purse" (27 : Nat) ({ cls := "PointsForAll$Purse", name := "buys", desc := "(I)I" } : Jvm.MethodName)) ∈ lw_all := lw_g (lw_at lw_m5 153 rfl) rfl
theorem q1195 : (Jvm.Cond.methodLink "PointsForAll$Purse" (34 : Nat) ({ cls := "PointsForAll$Purse", name := "lends", desc := "(I)I" } : Jvm.MethodName)) ∈ lw_all := lw_g (lw_at lw_m5 154 rfl) rfl
theorem q1211 : (Jvm.Cond.publicMethod ({ cls := "PointsForAll$Purse", name := "tells", desc := "(I)I" } : Jvm.MethodName)) ∈ lw_tbl := lw_at lw_m5 170 rfl
theorem q1221 : (Jvm.Cond.castable "PointsForAll$Purse" "PointsForAll$Tells") ∈ lw_tbl := lw_at lw_m5 180 rfl
theorem q1222 : (Jvm.Cond.selects "PointsForAll$Purse" ({ cls := "PointsForAll$Tells", name := "tells", desc := "(I)I" } : Jvm.MethodName) ({ cls := "PointsForAll$Purse", name := "tells", desc := "(I)I" } : Jvm.MethodName)) ∈ lw_all := lw_g (lw_at lw_m5 181 rfl) rfl
theorem q1223 : (Jvm.Cond.unhidden "PointsForAll$Purse" "tells" "(I)I") ∈ lw_tbl := lw_at lw_m5 182 rfl
theorem q1396 : (Jvm.Cond.instanceMethod ({ cls := "PointsForAll$Purse", name := "isUnder", desc := "(I)Z" } : Jvm.MethodName)) ∈ lw_all := lw_g (lw_at lw_m6 115 rfl) rfl
theorem q1397 : (Jvm.Cond.selects "PointsForAll$Purse" ({ cls := "PointsForAll$Purse", name := "isUnder", desc := "(I)Z" } : Jvm.MethodName) ({ cls := "PointsForAll$Purse", name := "isUnder", desc := "(I)Z" } : Jvm.MethodName)) ∈ lw_all := lw_g (lw_at lw_m6 116 rfl) rfl
theorem q1398 : (Jvm.Cond.sameMethod "PointsForAll$Purse" "PointsForAll$Purse" "isUnder" "(I)Z") ∈ lw_all := lw_g (lw_at lw_m6 117 rfl) rfl
theorem q1415 : (Jvm.Cond.code ({ cls := "PointsForAll$Purse", name := "isUnder", desc := "(I)Z" } : Jvm.MethodName) prog_22_method_4_code (2 : Nat) (Option.some Jvm.ClassFile.FieldType.boolean)) ∈ lw_all := lw_g (lw_at lw_m6 134 rfl) rfl
theorem q1416 : (Jvm.Cond.methodLink "PointsForAll$Purse" (19 : Nat) ({ cls := "PointsForAll$Purse", name := "kind", desc := "()I" } : Jvm.MethodName)) ∈ lw_all := lw_g (lw_at lw_m6 135 rfl) rfl
theorem q1417 : (Jvm.Cond.instanceMethod ({ cls := "PointsForAll$Purse", name := "kind", desc := "()I" } : Jvm.MethodName)) ∈ lw_all := lw_g (lw_at lw_m6 136 rfl) rfl
theorem q1418 : (Jvm.Cond.selects "PointsForAll$Purse" ({ cls := "PointsForAll$Purse", name := "kind", desc := "()I" } : Jvm.MethodName) ({ cls := "PointsForAll$Purse", name := "kind", desc := "()I" } : Jvm.MethodName)) ∈ lw_all := lw_g (lw_at lw_m6 137 rfl) rfl
theorem q1419 : (Jvm.Cond.sameMethod "PointsForAll$Purse" "PointsForAll$Purse" "kind" "()I") ∈ lw_all := lw_g (lw_at lw_m6 138 rfl) rfl
theorem q1441 : (Jvm.Cond.code ({ cls := "PointsForAll$Purse", name := "kind", desc := "()I" } : Jvm.MethodName) prog_22_method_3_code (1 : Nat) (Option.some Jvm.ClassFile.FieldType.int)) ∈ lw_all := lw_g (lw_at lw_m6 160 rfl) rfl
theorem q1991 : (Jvm.Cond.sameMethod "PointsForAll$Purse" "PointsForAll$Purse" "buys" "(I)I") ∈ lw_all := lw_g (lw_at lw_m8 230 rfl) rfl
theorem q1998 : (Jvm.Cond.selects "PointsForAll$Purse" ({ cls := "PointsForAll$Purse", name := "buys", desc := "(I)I" } : Jvm.MethodName) ({ cls := "PointsForAll$Purse", name := "buys", desc := "(I)I" } : Jvm.MethodName)) ∈ lw_all := lw_g (lw_at lw_m8 237 rfl) rfl
theorem q2000 : (Jvm.Cond.sameMethod "PointsForAll$Purse" "PointsForAll$Purse" "lends" "(I)I") ∈ lw_all := lw_g (lw_at lw_m8 239 rfl) rfl
theorem q2007 : (Jvm.Cond.selects "PointsForAll$Purse" ({ cls := "PointsForAll$Purse", name := "lends", desc := "(I)I" } : Jvm.MethodName) ({ cls := "PointsForAll$Purse", name := "lends", desc := "(I)I" } : Jvm.MethodName)) ∈ lw_all := lw_g (lw_at lw_m9 6 rfl) rfl
theorem q2030 : (Jvm.Cond.castable "PointsForAll$Purse" "PointsForAll$Held") ∈ lw_tbl := lw_at lw_m9 29 rfl
theorem in_X15 : ∀ w ∈ wsX150, w ∈ lw_all := lw_in wsX150 [1078, 1079] (by decide +kernel) (by decide +kernel)

/-! PointsForAll$Coin -/
set_option maxRecDepth 100000
def RX16 : String := "PointsForAll$Coin"
def TX16 : u_T := fun k => match k with
  | 0 => ("PointsForAll$Purse", "number", "I", true)
  | 1 => ("PointsForAll$Purse", "this$0", "LPointsForAll;", true)
  | _ => ("PointsForAll$Coin", "this$0", "LPointsForAll;", true)
def tyX16 : Nat → FieldType := fun k => match k with
  | 0 => .int
  | 1 => .object "PointsForAll"
  | _ => .object "PointsForAll"
abbrev wsX160 : List Cond := u_ws RX16 TX16 3
-- two fields of one name: no nmX16
theorem tyX16_ok : ∀ k, k < 3 → parseFieldDescriptor (TX16 k).2.2.1 = some (tyX16 k) := by decide +kernel
abbrev cX16_init : ByteArray := prog_9_method_1_code
def yX16_init : MethodName := ⟨RX16, "<init>", "(LPointsForAll;I)V"⟩
def dkwX16_init_0 : List UInt8 := [42, 43, 181, 0, 1, 42, 43, 28, 183, 0, 7, 177]
abbrev dktX16_init_0 : List UInt8 := dkwX16_init_0 ++ []
theorem dksX16_init_0 : cX16_init.data.toList.drop 0 = dktX16_init_0 := by decide +kernel
theorem dX16_init_0 : decode cX16_init 0 = .ok (.aload_n 0, 1) := dk_42 (dk_at dksX16_init_0 0 rfl rfl)
theorem dX16_init_1 : decode cX16_init 1 = .ok (.aload_n 1, 1) := dk_43 (dk_at dksX16_init_0 1 rfl rfl)
theorem dX16_init_2 : decode cX16_init 2 = .ok (.putfield 1, 3) := dk_181 0 1 (dk_at dksX16_init_0 2 rfl rfl)
theorem dX16_init_5 : decode cX16_init 5 = .ok (.aload_n 0, 1) := dk_42 (dk_at dksX16_init_0 5 rfl rfl)
theorem dX16_init_6 : decode cX16_init 6 = .ok (.aload_n 1, 1) := dk_43 (dk_at dksX16_init_0 6 rfl rfl)
theorem dX16_init_7 : decode cX16_init 7 = .ok (.iload_n 2, 1) := dk_28 (dk_at dksX16_init_0 7 rfl rfl)
theorem dX16_init_8 : decode cX16_init 8 = .ok (.invokespecial 7, 3) := dk_183 0 7 (dk_at dksX16_init_0 8 rfl rfl)
theorem dX16_init_11 : decode cX16_init 11 = .ok (.return_, 1) := dk_177 (dk_at dksX16_init_0 11 rfl rfl)
abbrev cX16_buys : ByteArray := prog_9_method_3_code
def yX16_buys : MethodName := ⟨RX16, "buys", "(I)I"⟩
def dkwX16_buys_0 : List UInt8 := [42, 180, 0, 1, 16, 20, 182, 0, 13, 42, 27, 183, 0, 19, 6, 96, 172]
abbrev dktX16_buys_0 : List UInt8 := dkwX16_buys_0 ++ []
theorem dksX16_buys_0 : cX16_buys.data.toList.drop 0 = dktX16_buys_0 := by decide +kernel
theorem dX16_buys_0 : decode cX16_buys 0 = .ok (.aload_n 0, 1) := dk_42 (dk_at dksX16_buys_0 0 rfl rfl)
theorem dX16_buys_1 : decode cX16_buys 1 = .ok (.getfield 1, 3) := dk_180 0 1 (dk_at dksX16_buys_0 1 rfl rfl)
theorem dX16_buys_4 : decode cX16_buys 4 = .ok (.bipush 20, 2) := dk_16 20 (dk_at dksX16_buys_0 4 rfl rfl)
theorem dX16_buys_6 : decode cX16_buys 6 = .ok (.invokevirtual 13, 3) := dk_182 0 13 (dk_at dksX16_buys_0 6 rfl rfl)
theorem dX16_buys_9 : decode cX16_buys 9 = .ok (.aload_n 0, 1) := dk_42 (dk_at dksX16_buys_0 9 rfl rfl)
theorem dX16_buys_10 : decode cX16_buys 10 = .ok (.iload_n 1, 1) := dk_27 (dk_at dksX16_buys_0 10 rfl rfl)
theorem dX16_buys_11 : decode cX16_buys 11 = .ok (.invokespecial 19, 3) := dk_183 0 19 (dk_at dksX16_buys_0 11 rfl rfl)
theorem dX16_buys_14 : decode cX16_buys 14 = .ok (.iconst 3, 1) := dk_6 (dk_at dksX16_buys_0 14 rfl rfl)
theorem dX16_buys_15 : decode cX16_buys 15 = .ok (.iadd, 1) := dk_96 (dk_at dksX16_buys_0 15 rfl rfl)
theorem dX16_buys_16 : decode cX16_buys 16 = .ok (.ireturn, 1) := dk_172 (dk_at dksX16_buys_0 16 rfl rfl)
abbrev cX16_kind : ByteArray := prog_9_method_2_code
def yX16_kind : MethodName := ⟨RX16, "kind", "()I"⟩
theorem dX16_kind_0 : decode cX16_kind 0 = .ok (.iconst 1, 1) := by decide +kernel
theorem dX16_kind_1 : decode cX16_kind 1 = .ok (.ireturn, 1) := by decide +kernel
theorem q112 : (Jvm.Cond.initialized "PointsForAll$Coin") ∈ lw_all := lw_g (lw_at lw_m1 31 rfl) rfl
theorem q977 : (Jvm.Cond.instantiable "PointsForAll$Coin" (3 : Nat)) ∈ lw_all := lw_g (lw_at lw_m4 176 rfl) rfl
theorem q979 : (Jvm.Cond.instanceMethod ({ cls := "PointsForAll$Coin", name := "<init>", desc := "(LPointsForAll;I)V" } : Jvm.MethodName)) ∈ lw_all := lw_g (lw_at lw_m4 178 rfl) rfl
theorem q980 : (Jvm.Cond.code ({ cls := "PointsForAll$Coin", name := "<init>", desc := "(LPointsForAll;I)V" } : Jvm.MethodName) prog_9_method_1_code (3 : Nat) (Option.none : Option Jvm.ClassFile.FieldType)) ∈ lw_all := lw_g (lw_at lw_m4 179 rfl) rfl
theorem q981 : (Jvm.Cond.methodLink "PointsForAll$Coin" (7 : Nat) ({ cls := "PointsForAll$Purse", name := "<init>", desc := "(LPointsForAll;I)V" } : Jvm.MethodName)) ∈ lw_all := lw_g (lw_at lw_m4 180 rfl) rfl
theorem q988 : (Jvm.Cond.fieldLink "PointsForAll$Coin" (1 : Nat) "PointsForAll$Coin" "this$0" "LPointsForAll;") ∈ lw_all := lw_g (lw_at lw_m4 187 rfl) rfl
theorem q991 : (Jvm.Cond.laysFinal "PointsForAll$Coin" "PointsForAll$Coin" "this$0" "LPointsForAll;") ∈ lw_all := lw_g (lw_at lw_m4 190 rfl) rfl
theorem q992 : (Jvm.Cond.soleField "PointsForAll$Coin" "this$0") ∈ lw_all := lw_g (lw_at lw_m4 191 rfl) rfl
theorem q993 : (Jvm.Cond.laysFinal "PointsForAll$Coin" "PointsForAll$Purse" "number" "I") ∈ lw_all := lw_g (lw_at lw_m4 192 rfl) rfl
theorem q995 : (Jvm.Cond.laysFinal "PointsForAll$Coin" "PointsForAll$Purse" "this$0" "LPointsForAll;") ∈ lw_all := lw_g (lw_at lw_m4 194 rfl) rfl
theorem q997 : (Jvm.Cond.superclass "PointsForAll$Coin" "PointsForAll$Purse") ∈ lw_all := lw_g (lw_at lw_m4 196 rfl) rfl
theorem q1116 : (Jvm.Cond.castable "PointsForAll$Coin" "PointsForAll$Buys") ∈ lw_tbl := lw_at lw_m5 75 rfl
theorem q1117 : (Jvm.Cond.selects "PointsForAll$Coin" ({ cls := "PointsForAll$Buys", name := "buys", desc := "(I)I" } : Jvm.MethodName) ({ cls := "PointsForAll$Coin", name := "buys", desc := "(I)I" } : Jvm.MethodName)) ∈ lw_all := lw_g (lw_at lw_m5 76 rfl) rfl
theorem q1118 : (Jvm.Cond.unhidden "PointsForAll$Coin" "buys" "(I)I") ∈ lw_tbl := lw_at lw_m5 77 rfl
theorem q1119 : (Jvm.Cond.instanceMethod ({ cls := "PointsForAll$Coin", name := "buys", desc := "(I)I" } : Jvm.MethodName)) ∈ lw_all := lw_g (lw_at lw_m5 78 rfl) rfl
theorem q1120 : (Jvm.Cond.publicMethod ({ cls := "PointsForAll$Coin", name := "buys", desc := "(I)I" } : Jvm.MethodName)) ∈ lw_tbl := lw_at lw_m5 79 rfl
theorem q1121 : (Jvm.Cond.code ({ cls := "PointsForAll$Coin", name := "buys", desc := "(I)I" } : Jvm.MethodName) prog_9_method_3_code (2 : Nat) (Option.some Jvm.ClassFile.FieldType.int)) ∈ lw_all := lw_g (lw_at lw_m5 80 rfl) rfl
theorem q1122 : (Jvm.Cond.methodLinkNest "PointsForAll$Coin" (13 : Nat) ({ cls := "PointsForAll", name := "ran", desc := "(I)V" } : Jvm.MethodName) "PointsForAll") ∈ lw_tbl := lw_at lw_m5 81 rfl
theorem q1123 : (Jvm.Cond.methodLink "PointsForAll$Coin" (19 : Nat) ({ cls := "PointsForAll$Purse", name := "buys", desc := "(I)I" } : Jvm.MethodName)) ∈ lw_all := lw_g (lw_at lw_m5 82 rfl) rfl
theorem q1189 : (Jvm.Cond.selects "PointsForAll$Coin" ({ cls := "PointsForAll$Purse", name := "keeps", desc := "(I)I" } : Jvm.MethodName) ({ cls := "PointsForAll$Purse", name := "keeps", desc := "(I)I" } : Jvm.MethodName)) ∈ lw_all := lw_g (lw_at lw_m5 148 rfl) rfl
theorem q1212 : (Jvm.Cond.castable "PointsForAll$Coin" "PointsForAll$Tells") ∈ lw_tbl := lw_at lw_m5 171 rfl
theorem q1213 : (Jvm.Cond.selects "PointsForAll$Coin" ({ cls := "PointsForAll$Tells", name := "tells", desc := "(I)I" } : Jvm.MethodName) ({ cls := "PointsForAll$Purse", name := "tells", desc := "(I)I" } : Jvm.MethodName)) ∈ lw_all := lw_g (lw_at lw_m5 172 rfl) rfl
theorem q1214 : (Jvm.Cond.unhidden "PointsForAll$Coin" "tells" "(I)I") ∈ lw_tbl := lw_at lw_m5 173 rfl
theorem q1411 : (Jvm.Cond.selects "PointsForAll$Coin" ({ cls := "PointsForAll$Purse", name := "isUnder", desc := "(I)Z" } : Jvm.MethodName) ({ cls := "PointsForAll$Purse", name := "isUnder", desc := "(I)Z" } : Jvm.MethodName)) ∈ lw_all := lw_g (lw_at lw_m6 130 rfl) rfl
theorem q1429 : (Jvm.Cond.selects "PointsForAll$Coin" ({ cls := "PointsForAll$Purse", name := "kind", desc := "()I" } : Jvm.MethodName) ({ cls := "PointsForAll$Coin", name := "kind", desc := "()I" } : Jvm.MethodName)) ∈ lw_all := lw_g (lw_at lw_m6 148 rfl) rfl
theorem q1430 : (Jvm.Cond.instanceMethod ({ cls := "PointsForAll$Coin", name := "kind", desc := "()I" } : Jvm.MethodName)) ∈ lw_all := lw_g (lw_at lw_m6 149 rfl) rfl
theorem q1431 : (Jvm.Cond.code ({ cls := "PointsForAll$Coin", name := "kind", desc := "()I" } : Jvm.MethodName) prog_9_method_2_code (1 : Nat) (Option.some Jvm.ClassFile.FieldType.int)) ∈ lw_all := lw_g (lw_at lw_m6 150 rfl) rfl
theorem q1995 : (Jvm.Cond.selects "PointsForAll$Coin" ({ cls := "PointsForAll$Purse", name := "buys", desc := "(I)I" } : Jvm.MethodName) ({ cls := "PointsForAll$Coin", name := "buys", desc := "(I)I" } : Jvm.MethodName)) ∈ lw_all := lw_g (lw_at lw_m8 234 rfl) rfl
theorem q2004 : (Jvm.Cond.selects "PointsForAll$Coin" ({ cls := "PointsForAll$Purse", name := "lends", desc := "(I)I" } : Jvm.MethodName) ({ cls := "PointsForAll$Purse", name := "lends", desc := "(I)I" } : Jvm.MethodName)) ∈ lw_all := lw_g (lw_at lw_m9 3 rfl) rfl
theorem q2019 : (Jvm.Cond.castable "PointsForAll$Coin" "PointsForAll$Purse") ∈ lw_tbl := lw_at lw_m9 18 rfl
theorem q2023 : (Jvm.Cond.castable "PointsForAll$Coin" "PointsForAll$Held") ∈ lw_tbl := lw_at lw_m9 22 rfl
theorem in_X16 : ∀ w ∈ wsX160, w ∈ lw_all := lw_in wsX160 [993, 995, 991] (by decide +kernel) (by decide +kernel)

/-! PointsForAll$Points -/
set_option maxRecDepth 100000
def RX17 : String := "PointsForAll$Points"
def TX17 : u_T := fun k => match k with
  | 0 => ("PointsForAll$Purse", "number", "I", true)
  | 1 => ("PointsForAll$Purse", "this$0", "LPointsForAll;", true)
  | _ => ("PointsForAll$Points", "this$0", "LPointsForAll;", true)
def tyX17 : Nat → FieldType := fun k => match k with
  | 0 => .int
  | 1 => .object "PointsForAll"
  | _ => .object "PointsForAll"
abbrev wsX170 : List Cond := u_ws RX17 TX17 3
-- two fields of one name: no nmX17
theorem tyX17_ok : ∀ k, k < 3 → parseFieldDescriptor (TX17 k).2.2.1 = some (tyX17 k) := by decide +kernel
abbrev cX17_init : ByteArray := prog_21_method_1_code
def yX17_init : MethodName := ⟨RX17, "<init>", "(LPointsForAll;I)V"⟩
def dkwX17_init_0 : List UInt8 := [42, 43, 181, 0, 1, 42, 43, 28, 183, 0, 7, 177]
abbrev dktX17_init_0 : List UInt8 := dkwX17_init_0 ++ []
theorem dksX17_init_0 : cX17_init.data.toList.drop 0 = dktX17_init_0 := by decide +kernel
theorem dX17_init_0 : decode cX17_init 0 = .ok (.aload_n 0, 1) := dk_42 (dk_at dksX17_init_0 0 rfl rfl)
theorem dX17_init_1 : decode cX17_init 1 = .ok (.aload_n 1, 1) := dk_43 (dk_at dksX17_init_0 1 rfl rfl)
theorem dX17_init_2 : decode cX17_init 2 = .ok (.putfield 1, 3) := dk_181 0 1 (dk_at dksX17_init_0 2 rfl rfl)
theorem dX17_init_5 : decode cX17_init 5 = .ok (.aload_n 0, 1) := dk_42 (dk_at dksX17_init_0 5 rfl rfl)
theorem dX17_init_6 : decode cX17_init 6 = .ok (.aload_n 1, 1) := dk_43 (dk_at dksX17_init_0 6 rfl rfl)
theorem dX17_init_7 : decode cX17_init 7 = .ok (.iload_n 2, 1) := dk_28 (dk_at dksX17_init_0 7 rfl rfl)
theorem dX17_init_8 : decode cX17_init 8 = .ok (.invokespecial 7, 3) := dk_183 0 7 (dk_at dksX17_init_0 8 rfl rfl)
theorem dX17_init_11 : decode cX17_init 11 = .ok (.return_, 1) := dk_177 (dk_at dksX17_init_0 11 rfl rfl)
abbrev cX17_keeps : ByteArray := prog_21_method_4_code
def yX17_keeps : MethodName := ⟨RX17, "keeps", "(I)I"⟩
def dkwX17_keeps_0 : List UInt8 := [42, 180, 0, 1, 16, 30, 182, 0, 17, 42, 27, 183, 0, 23, 116, 172]
abbrev dktX17_keeps_0 : List UInt8 := dkwX17_keeps_0 ++ []
theorem dksX17_keeps_0 : cX17_keeps.data.toList.drop 0 = dktX17_keeps_0 := by decide +kernel
theorem dX17_keeps_0 : decode cX17_keeps 0 = .ok (.aload_n 0, 1) := dk_42 (dk_at dksX17_keeps_0 0 rfl rfl)
theorem dX17_keeps_1 : decode cX17_keeps 1 = .ok (.getfield 1, 3) := dk_180 0 1 (dk_at dksX17_keeps_0 1 rfl rfl)
theorem dX17_keeps_4 : decode cX17_keeps 4 = .ok (.bipush 30, 2) := dk_16 30 (dk_at dksX17_keeps_0 4 rfl rfl)
theorem dX17_keeps_6 : decode cX17_keeps 6 = .ok (.invokevirtual 17, 3) := dk_182 0 17 (dk_at dksX17_keeps_0 6 rfl rfl)
theorem dX17_keeps_9 : decode cX17_keeps 9 = .ok (.aload_n 0, 1) := dk_42 (dk_at dksX17_keeps_0 9 rfl rfl)
theorem dX17_keeps_10 : decode cX17_keeps 10 = .ok (.iload_n 1, 1) := dk_27 (dk_at dksX17_keeps_0 10 rfl rfl)
theorem dX17_keeps_11 : decode cX17_keeps 11 = .ok (.invokespecial 23, 3) := dk_183 0 23 (dk_at dksX17_keeps_0 11 rfl rfl)
theorem dX17_keeps_14 : decode cX17_keeps 14 = .ok (.ineg, 1) := dk_116 (dk_at dksX17_keeps_0 14 rfl rfl)
theorem dX17_keeps_15 : decode cX17_keeps 15 = .ok (.ireturn, 1) := dk_172 (dk_at dksX17_keeps_0 15 rfl rfl)
abbrev cX17_isUnder : ByteArray := prog_21_method_3_code
def yX17_isUnder : MethodName := ⟨RX17, "isUnder", "(I)Z"⟩
def dkwX17_isUnder_0 : List UInt8 := [27, 5, 159, 0, 11, 42, 27, 183, 0, 13, 153, 0, 7, 4, 167, 0, 4, 3, 172]
abbrev dktX17_isUnder_0 : List UInt8 := dkwX17_isUnder_0 ++ []
theorem dksX17_isUnder_0 : cX17_isUnder.data.toList.drop 0 = dktX17_isUnder_0 := by decide +kernel
theorem dX17_isUnder_0 : decode cX17_isUnder 0 = .ok (.iload_n 1, 1) := dk_27 (dk_at dksX17_isUnder_0 0 rfl rfl)
theorem dX17_isUnder_1 : decode cX17_isUnder 1 = .ok (.iconst 2, 1) := dk_5 (dk_at dksX17_isUnder_0 1 rfl rfl)
theorem dX17_isUnder_2 : decode cX17_isUnder 2 = .ok (.if_icmp .eq 11, 3) := dk_159 0 11 (dk_at dksX17_isUnder_0 2 rfl rfl)
theorem dX17_isUnder_5 : decode cX17_isUnder 5 = .ok (.aload_n 0, 1) := dk_42 (dk_at dksX17_isUnder_0 5 rfl rfl)
theorem dX17_isUnder_6 : decode cX17_isUnder 6 = .ok (.iload_n 1, 1) := dk_27 (dk_at dksX17_isUnder_0 6 rfl rfl)
theorem dX17_isUnder_7 : decode cX17_isUnder 7 = .ok (.invokespecial 13, 3) := dk_183 0 13 (dk_at dksX17_isUnder_0 7 rfl rfl)
theorem dX17_isUnder_10 : decode cX17_isUnder 10 = .ok (.ifCond .eq 7, 3) := dk_153 0 7 (dk_at dksX17_isUnder_0 10 rfl rfl)
theorem dX17_isUnder_13 : decode cX17_isUnder 13 = .ok (.iconst 1, 1) := dk_4 (dk_at dksX17_isUnder_0 13 rfl rfl)
theorem dX17_isUnder_14 : decode cX17_isUnder 14 = .ok (.goto 4, 3) := dk_167 0 4 (dk_at dksX17_isUnder_0 14 rfl rfl)
theorem dX17_isUnder_17 : decode cX17_isUnder 17 = .ok (.iconst 0, 1) := dk_3 (dk_at dksX17_isUnder_0 17 rfl rfl)
theorem dX17_isUnder_18 : decode cX17_isUnder 18 = .ok (.ireturn, 1) := dk_172 (dk_at dksX17_isUnder_0 18 rfl rfl)
abbrev cX17_kind : ByteArray := prog_21_method_2_code
def yX17_kind : MethodName := ⟨RX17, "kind", "()I"⟩
theorem dX17_kind_0 : decode cX17_kind 0 = .ok (.iconst 2, 1) := by decide +kernel
theorem dX17_kind_1 : decode cX17_kind 1 = .ok (.ireturn, 1) := by decide +kernel
theorem q113 : (Jvm.Cond.initialized "PointsForAll$Points") ∈ lw_all := lw_g (lw_at lw_m1 32 rfl) rfl
theorem q999 : (Jvm.Cond.instantiable "PointsForAll$Points" (3 : Nat)) ∈ lw_all := lw_g (lw_at lw_m4 198 rfl) rfl
theorem q1001 : (Jvm.Cond.instanceMethod ({ cls := "PointsForAll$Points", name := "<init>", desc := "(LPointsForAll;I)V" } : Jvm.MethodName)) ∈ lw_all := lw_g (lw_at lw_m4 200 rfl) rfl
theorem q1002 : (Jvm.Cond.code ({ cls := "PointsForAll$Points", name := "<init>", desc := "(LPointsForAll;I)V" } : Jvm.MethodName) prog_21_method_1_code (3 : Nat) (Option.none : Option Jvm.ClassFile.FieldType)) ∈ lw_all := lw_g (lw_at lw_m4 201 rfl) rfl
theorem q1003 : (Jvm.Cond.methodLink "PointsForAll$Points" (7 : Nat) ({ cls := "PointsForAll$Purse", name := "<init>", desc := "(LPointsForAll;I)V" } : Jvm.MethodName)) ∈ lw_all := lw_g (lw_at lw_m4 202 rfl) rfl
theorem q1004 : (Jvm.Cond.fieldLink "PointsForAll$Points" (1 : Nat) "PointsForAll$Points" "this$0" "LPointsForAll;") ∈ lw_all := lw_g (lw_at lw_m4 203 rfl) rfl
theorem q1005 : (Jvm.Cond.laysFinal "PointsForAll$Points" "PointsForAll$Points" "this$0" "LPointsForAll;") ∈ lw_all := lw_g (lw_at lw_m4 204 rfl) rfl
theorem q1006 : (Jvm.Cond.soleField "PointsForAll$Points" "this$0") ∈ lw_all := lw_g (lw_at lw_m4 205 rfl) rfl
theorem q1007 : (Jvm.Cond.laysFinal "PointsForAll$Points" "PointsForAll$Purse" "number" "I") ∈ lw_all := lw_g (lw_at lw_m4 206 rfl) rfl
theorem q1008 : (Jvm.Cond.laysFinal "PointsForAll$Points" "PointsForAll$Purse" "this$0" "LPointsForAll;") ∈ lw_all := lw_g (lw_at lw_m4 207 rfl) rfl
theorem q1009 : (Jvm.Cond.superclass "PointsForAll$Points" "PointsForAll$Purse") ∈ lw_all := lw_g (lw_at lw_m4 208 rfl) rfl
theorem q1127 : (Jvm.Cond.castable "PointsForAll$Points" "PointsForAll$Buys") ∈ lw_tbl := lw_at lw_m5 86 rfl
theorem q1128 : (Jvm.Cond.selects "PointsForAll$Points" ({ cls := "PointsForAll$Buys", name := "buys", desc := "(I)I" } : Jvm.MethodName) ({ cls := "PointsForAll$Purse", name := "buys", desc := "(I)I" } : Jvm.MethodName)) ∈ lw_all := lw_g (lw_at lw_m5 87 rfl) rfl
theorem q1129 : (Jvm.Cond.unhidden "PointsForAll$Points" "buys" "(I)I") ∈ lw_tbl := lw_at lw_m5 88 rfl
theorem q1161 : (Jvm.Cond.instanceMethod ({ cls := "PointsForAll$Points", name := "keeps", desc := "(I)I" } : Jvm.MethodName)) ∈ lw_all := lw_g (lw_at lw_m5 120 rfl) rfl
theorem q1162 : (Jvm.Cond.code ({ cls := "PointsForAll$Points", name := "keeps", desc := "(I)I" } : Jvm.MethodName) prog_21_method_4_code (2 : Nat) (Option.some Jvm.ClassFile.FieldType.int)) ∈ lw_all := lw_g (lw_at lw_m5 121 rfl) rfl
theorem q1163 : (Jvm.Cond.methodLinkNest "PointsForAll$Points" (17 : Nat) ({ cls := "PointsForAll", name := "ran", desc := "(I)V" } : Jvm.MethodName) "PointsForAll") ∈ lw_tbl := lw_at lw_m5 122 rfl
theorem q1164 : (Jvm.Cond.methodLink "PointsForAll$Points" (23 : Nat) ({ cls := "PointsForAll$Purse", name := "keeps", desc := "(I)I" } : Jvm.MethodName)) ∈ lw_all := lw_g (lw_at lw_m5 123 rfl) rfl
theorem q1171 : (Jvm.Cond.declares ({ cls := "PointsForAll$Points", name := "keeps", desc := "(I)I" } : Jvm.MethodName)) ∈ lw_tbl := lw_at lw_m5 130 rfl
theorem q1180 : (Jvm.Cond.sameMethod "PointsForAll$Points" "PointsForAll$Purse" "lends" "(I)I") ∈ lw_all := lw_g (lw_at lw_m5 139 rfl) rfl
theorem q1191 : (Jvm.Cond.selects "PointsForAll$Points" ({ cls := "PointsForAll$Purse", name := "keeps", desc := "(I)I" } : Jvm.MethodName) ({ cls := "PointsForAll$Points", name := "keeps", desc := "(I)I" } : Jvm.MethodName)) ∈ lw_all := lw_g (lw_at lw_m5 150 rfl) rfl
theorem q1218 : (Jvm.Cond.castable "PointsForAll$Points" "PointsForAll$Tells") ∈ lw_tbl := lw_at lw_m5 177 rfl
theorem q1219 : (Jvm.Cond.selects "PointsForAll$Points" ({ cls := "PointsForAll$Tells", name := "tells", desc := "(I)I" } : Jvm.MethodName) ({ cls := "PointsForAll$Purse", name := "tells", desc := "(I)I" } : Jvm.MethodName)) ∈ lw_all := lw_g (lw_at lw_m5 178 rfl) rfl
theorem q1220 : (Jvm.Cond.unhidden "PointsForAll$Points" "tells" "(I)I") ∈ lw_tbl := lw_at lw_m5 179 rfl
theorem q1403 : (Jvm.Cond.instanceMethod ({ cls := "PointsForAll$Points", name := "isUnder", desc := "(I)Z" } : Jvm.MethodName)) ∈ lw_all := lw_g (lw_at lw_m6 122 rfl) rfl
theorem q1404 : (Jvm.Cond.code ({ cls := "PointsForAll$Points", name := "isUnder", desc := "(I)Z" } : Jvm.MethodName) prog_21_method_3_code (2 : Nat) (Option.some Jvm.ClassFile.FieldType.boolean)) ∈ lw_all := lw_g (lw_at lw_m6 123 rfl) rfl
theorem q1405 : (Jvm.Cond.methodLink "PointsForAll$Points" (13 : Nat) ({ cls := "PointsForAll$Purse", name := "isUnder", desc := "(I)Z" } : Jvm.MethodName)) ∈ lw_all := lw_g (lw_at lw_m6 124 rfl) rfl
theorem q1413 : (Jvm.Cond.selects "PointsForAll$Points" ({ cls := "PointsForAll$Purse", name := "isUnder", desc := "(I)Z" } : Jvm.MethodName) ({ cls := "PointsForAll$Points", name := "isUnder", desc := "(I)Z" } : Jvm.MethodName)) ∈ lw_all := lw_g (lw_at lw_m6 132 rfl) rfl
theorem q1435 : (Jvm.Cond.selects "PointsForAll$Points" ({ cls := "PointsForAll$Purse", name := "kind", desc := "()I" } : Jvm.MethodName) ({ cls := "PointsForAll$Points", name := "kind", desc := "()I" } : Jvm.MethodName)) ∈ lw_all := lw_g (lw_at lw_m6 154 rfl) rfl
theorem q1436 : (Jvm.Cond.instanceMethod ({ cls := "PointsForAll$Points", name := "kind", desc := "()I" } : Jvm.MethodName)) ∈ lw_all := lw_g (lw_at lw_m6 155 rfl) rfl
theorem q1437 : (Jvm.Cond.code ({ cls := "PointsForAll$Points", name := "kind", desc := "()I" } : Jvm.MethodName) prog_21_method_2_code (1 : Nat) (Option.some Jvm.ClassFile.FieldType.int)) ∈ lw_all := lw_g (lw_at lw_m6 156 rfl) rfl
theorem q1997 : (Jvm.Cond.selects "PointsForAll$Points" ({ cls := "PointsForAll$Purse", name := "buys", desc := "(I)I" } : Jvm.MethodName) ({ cls := "PointsForAll$Purse", name := "buys", desc := "(I)I" } : Jvm.MethodName)) ∈ lw_all := lw_g (lw_at lw_m8 236 rfl) rfl
theorem q2006 : (Jvm.Cond.selects "PointsForAll$Points" ({ cls := "PointsForAll$Purse", name := "lends", desc := "(I)I" } : Jvm.MethodName) ({ cls := "PointsForAll$Purse", name := "lends", desc := "(I)I" } : Jvm.MethodName)) ∈ lw_all := lw_g (lw_at lw_m9 5 rfl) rfl
theorem q2009 : (Jvm.Cond.sameMethod "PointsForAll$Points" "PointsForAll$Points" "isUnder" "(I)Z") ∈ lw_all := lw_g (lw_at lw_m9 8 rfl) rfl
theorem q2021 : (Jvm.Cond.castable "PointsForAll$Points" "PointsForAll$Purse") ∈ lw_tbl := lw_at lw_m9 20 rfl
theorem q2024 : (Jvm.Cond.castable "PointsForAll$Points" "PointsForAll$Held") ∈ lw_tbl := lw_at lw_m9 23 rfl
theorem in_X17 : ∀ w ∈ wsX170, w ∈ lw_all := lw_in wsX170 [1007, 1008, 1005] (by decide +kernel) (by decide +kernel)

/-! PointsForAll$Lent -/
set_option maxRecDepth 100000
def RX18 : String := "PointsForAll$Lent"
def TX18 : u_T := fun k => match k with
  | 0 => ("PointsForAll$Purse", "number", "I", true)
  | 1 => ("PointsForAll$Purse", "this$0", "LPointsForAll;", true)
  | 2 => ("PointsForAll$Points", "this$0", "LPointsForAll;", true)
  | _ => ("PointsForAll$Lent", "this$0", "LPointsForAll;", true)
def tyX18 : Nat → FieldType := fun k => match k with
  | 0 => .int
  | 1 => .object "PointsForAll"
  | 2 => .object "PointsForAll"
  | _ => .object "PointsForAll"
abbrev wsX180 : List Cond := u_ws RX18 TX18 4
-- two fields of one name: no nmX18
theorem tyX18_ok : ∀ k, k < 4 → parseFieldDescriptor (TX18 k).2.2.1 = some (tyX18 k) := by decide +kernel
abbrev cX18_init : ByteArray := prog_15_method_1_code
def yX18_init : MethodName := ⟨RX18, "<init>", "(LPointsForAll;I)V"⟩
def dkwX18_init_0 : List UInt8 := [42, 43, 181, 0, 1, 42, 43, 28, 183, 0, 7, 177]
abbrev dktX18_init_0 : List UInt8 := dkwX18_init_0 ++ []
theorem dksX18_init_0 : cX18_init.data.toList.drop 0 = dktX18_init_0 := by decide +kernel
theorem dX18_init_0 : decode cX18_init 0 = .ok (.aload_n 0, 1) := dk_42 (dk_at dksX18_init_0 0 rfl rfl)
theorem dX18_init_1 : decode cX18_init 1 = .ok (.aload_n 1, 1) := dk_43 (dk_at dksX18_init_0 1 rfl rfl)
theorem dX18_init_2 : decode cX18_init 2 = .ok (.putfield 1, 3) := dk_181 0 1 (dk_at dksX18_init_0 2 rfl rfl)
theorem dX18_init_5 : decode cX18_init 5 = .ok (.aload_n 0, 1) := dk_42 (dk_at dksX18_init_0 5 rfl rfl)
theorem dX18_init_6 : decode cX18_init 6 = .ok (.aload_n 1, 1) := dk_43 (dk_at dksX18_init_0 6 rfl rfl)
theorem dX18_init_7 : decode cX18_init 7 = .ok (.iload_n 2, 1) := dk_28 (dk_at dksX18_init_0 7 rfl rfl)
theorem dX18_init_8 : decode cX18_init 8 = .ok (.invokespecial 7, 3) := dk_183 0 7 (dk_at dksX18_init_0 8 rfl rfl)
theorem dX18_init_11 : decode cX18_init 11 = .ok (.return_, 1) := dk_177 (dk_at dksX18_init_0 11 rfl rfl)
abbrev cX18_lends : ByteArray := prog_15_method_4_code
def yX18_lends : MethodName := ⟨RX18, "lends", "(I)I"⟩
def dkwX18_lends_0 : List UInt8 := [42, 180, 0, 1, 16, 40, 182, 0, 17, 42, 27, 183, 0, 23, 6, 104, 172]
abbrev dktX18_lends_0 : List UInt8 := dkwX18_lends_0 ++ []
theorem dksX18_lends_0 : cX18_lends.data.toList.drop 0 = dktX18_lends_0 := by decide +kernel
theorem dX18_lends_0 : decode cX18_lends 0 = .ok (.aload_n 0, 1) := dk_42 (dk_at dksX18_lends_0 0 rfl rfl)
theorem dX18_lends_1 : decode cX18_lends 1 = .ok (.getfield 1, 3) := dk_180 0 1 (dk_at dksX18_lends_0 1 rfl rfl)
theorem dX18_lends_4 : decode cX18_lends 4 = .ok (.bipush 40, 2) := dk_16 40 (dk_at dksX18_lends_0 4 rfl rfl)
theorem dX18_lends_6 : decode cX18_lends 6 = .ok (.invokevirtual 17, 3) := dk_182 0 17 (dk_at dksX18_lends_0 6 rfl rfl)
theorem dX18_lends_9 : decode cX18_lends 9 = .ok (.aload_n 0, 1) := dk_42 (dk_at dksX18_lends_0 9 rfl rfl)
theorem dX18_lends_10 : decode cX18_lends 10 = .ok (.iload_n 1, 1) := dk_27 (dk_at dksX18_lends_0 10 rfl rfl)
theorem dX18_lends_11 : decode cX18_lends 11 = .ok (.invokespecial 23, 3) := dk_183 0 23 (dk_at dksX18_lends_0 11 rfl rfl)
theorem dX18_lends_14 : decode cX18_lends 14 = .ok (.iconst 3, 1) := dk_6 (dk_at dksX18_lends_0 14 rfl rfl)
theorem dX18_lends_15 : decode cX18_lends 15 = .ok (.imul, 1) := dk_104 (dk_at dksX18_lends_0 15 rfl rfl)
theorem dX18_lends_16 : decode cX18_lends 16 = .ok (.ireturn, 1) := dk_172 (dk_at dksX18_lends_0 16 rfl rfl)
abbrev cX18_isUnder : ByteArray := prog_15_method_3_code
def yX18_isUnder : MethodName := ⟨RX18, "isUnder", "(I)Z"⟩
def dkwX18_isUnder_0 : List UInt8 := [27, 6, 159, 0, 11, 42, 27, 183, 0, 13, 153, 0, 7, 4, 167, 0, 4, 3, 172]
abbrev dktX18_isUnder_0 : List UInt8 := dkwX18_isUnder_0 ++ []
theorem dksX18_isUnder_0 : cX18_isUnder.data.toList.drop 0 = dktX18_isUnder_0 := by decide +kernel
theorem dX18_isUnder_0 : decode cX18_isUnder 0 = .ok (.iload_n 1, 1) := dk_27 (dk_at dksX18_isUnder_0 0 rfl rfl)
theorem dX18_isUnder_1 : decode cX18_isUnder 1 = .ok (.iconst 3, 1) := dk_6 (dk_at dksX18_isUnder_0 1 rfl rfl)
theorem dX18_isUnder_2 : decode cX18_isUnder 2 = .ok (.if_icmp .eq 11, 3) := dk_159 0 11 (dk_at dksX18_isUnder_0 2 rfl rfl)
theorem dX18_isUnder_5 : decode cX18_isUnder 5 = .ok (.aload_n 0, 1) := dk_42 (dk_at dksX18_isUnder_0 5 rfl rfl)
theorem dX18_isUnder_6 : decode cX18_isUnder 6 = .ok (.iload_n 1, 1) := dk_27 (dk_at dksX18_isUnder_0 6 rfl rfl)
theorem dX18_isUnder_7 : decode cX18_isUnder 7 = .ok (.invokespecial 13, 3) := dk_183 0 13 (dk_at dksX18_isUnder_0 7 rfl rfl)
theorem dX18_isUnder_10 : decode cX18_isUnder 10 = .ok (.ifCond .eq 7, 3) := dk_153 0 7 (dk_at dksX18_isUnder_0 10 rfl rfl)
theorem dX18_isUnder_13 : decode cX18_isUnder 13 = .ok (.iconst 1, 1) := dk_4 (dk_at dksX18_isUnder_0 13 rfl rfl)
theorem dX18_isUnder_14 : decode cX18_isUnder 14 = .ok (.goto 4, 3) := dk_167 0 4 (dk_at dksX18_isUnder_0 14 rfl rfl)
theorem dX18_isUnder_17 : decode cX18_isUnder 17 = .ok (.iconst 0, 1) := dk_3 (dk_at dksX18_isUnder_0 17 rfl rfl)
theorem dX18_isUnder_18 : decode cX18_isUnder 18 = .ok (.ireturn, 1) := dk_172 (dk_at dksX18_isUnder_0 18 rfl rfl)
abbrev cX18_kind : ByteArray := prog_15_method_2_code
def yX18_kind : MethodName := ⟨RX18, "kind", "()I"⟩
theorem dX18_kind_0 : decode cX18_kind 0 = .ok (.iconst 3, 1) := by decide +kernel
theorem dX18_kind_1 : decode cX18_kind 1 = .ok (.ireturn, 1) := by decide +kernel
theorem q114 : (Jvm.Cond.initialized "PointsForAll$Lent") ∈ lw_all := lw_g (lw_at lw_m1 33 rfl) rfl
theorem q1011 : (Jvm.Cond.instantiable "PointsForAll$Lent" (4 : Nat)) ∈ lw_all := lw_g (lw_at lw_m4 210 rfl) rfl
theorem q1013 : (Jvm.Cond.instanceMethod ({ cls := "PointsForAll$Lent", name := "<init>", desc := "(LPointsForAll;I)V" } : Jvm.MethodName)) ∈ lw_all := lw_g (lw_at lw_m4 212 rfl) rfl
theorem q1014 : (Jvm.Cond.code ({ cls := "PointsForAll$Lent", name := "<init>", desc := "(LPointsForAll;I)V" } : Jvm.MethodName) prog_15_method_1_code (3 : Nat) (Option.none : Option Jvm.ClassFile.FieldType)) ∈ lw_all := lw_g (lw_at lw_m4 213 rfl) rfl
theorem q1015 : (Jvm.Cond.methodLink "PointsForAll$Lent" (7 : Nat) ({ cls := "PointsForAll$Points", name := "<init>", desc := "(LPointsForAll;I)V" } : Jvm.MethodName)) ∈ lw_all := lw_g (lw_at lw_m4 214 rfl) rfl
theorem q1016 : (Jvm.Cond.fieldLink "PointsForAll$Lent" (1 : Nat) "PointsForAll$Lent" "this$0" "LPointsForAll;") ∈ lw_all := lw_g (lw_at lw_m4 215 rfl) rfl
theorem q1017 : (Jvm.Cond.laysFinal "PointsForAll$Lent" "PointsForAll$Lent" "this$0" "LPointsForAll;") ∈ lw_all := lw_g (lw_at lw_m4 216 rfl) rfl
theorem q1018 : (Jvm.Cond.soleField "PointsForAll$Lent" "this$0") ∈ lw_all := lw_g (lw_at lw_m4 217 rfl) rfl
theorem q1019 : (Jvm.Cond.laysFinal "PointsForAll$Lent" "PointsForAll$Points" "this$0" "LPointsForAll;") ∈ lw_all := lw_g (lw_at lw_m4 218 rfl) rfl
theorem q1020 : (Jvm.Cond.laysFinal "PointsForAll$Lent" "PointsForAll$Purse" "number" "I") ∈ lw_all := lw_g (lw_at lw_m4 219 rfl) rfl
theorem q1021 : (Jvm.Cond.laysFinal "PointsForAll$Lent" "PointsForAll$Purse" "this$0" "LPointsForAll;") ∈ lw_all := lw_g (lw_at lw_m4 220 rfl) rfl
theorem q1022 : (Jvm.Cond.superclass "PointsForAll$Lent" "PointsForAll$Points") ∈ lw_all := lw_g (lw_at lw_m4 221 rfl) rfl
theorem q1104 : (Jvm.Cond.sameMethod "PointsForAll$Lent" "PointsForAll$Purse" "buys" "(I)I") ∈ lw_all := lw_g (lw_at lw_m5 63 rfl) rfl
theorem q1124 : (Jvm.Cond.castable "PointsForAll$Lent" "PointsForAll$Buys") ∈ lw_tbl := lw_at lw_m5 83 rfl
theorem q1125 : (Jvm.Cond.selects "PointsForAll$Lent" ({ cls := "PointsForAll$Buys", name := "buys", desc := "(I)I" } : Jvm.MethodName) ({ cls := "PointsForAll$Purse", name := "buys", desc := "(I)I" } : Jvm.MethodName)) ∈ lw_all := lw_g (lw_at lw_m5 84 rfl) rfl
theorem q1126 : (Jvm.Cond.unhidden "PointsForAll$Lent" "buys" "(I)I") ∈ lw_tbl := lw_at lw_m5 85 rfl
theorem q1152 : (Jvm.Cond.sameMethod "PointsForAll$Lent" "PointsForAll$Purse" "tells" "(I)I") ∈ lw_all := lw_g (lw_at lw_m5 111 rfl) rfl
theorem q1190 : (Jvm.Cond.selects "PointsForAll$Lent" ({ cls := "PointsForAll$Purse", name := "keeps", desc := "(I)I" } : Jvm.MethodName) ({ cls := "PointsForAll$Points", name := "keeps", desc := "(I)I" } : Jvm.MethodName)) ∈ lw_all := lw_g (lw_at lw_m5 149 rfl) rfl
theorem q1196 : (Jvm.Cond.instanceMethod ({ cls := "PointsForAll$Lent", name := "lends", desc := "(I)I" } : Jvm.MethodName)) ∈ lw_all := lw_g (lw_at lw_m5 155 rfl) rfl
theorem q1197 : (Jvm.Cond.code ({ cls := "PointsForAll$Lent", name := "lends", desc := "(I)I" } : Jvm.MethodName) prog_15_method_4_code (2 : Nat) (Option.some Jvm.ClassFile.FieldType.int)) ∈ lw_all := lw_g (lw_at lw_m5 156 rfl) rfl
theorem q1198 : (Jvm.Cond.methodLinkNest "PointsForAll$Lent" (17 : Nat) ({ cls := "PointsForAll", name := "ran", desc := "(I)V" } : Jvm.MethodName) "PointsForAll") ∈ lw_tbl := lw_at lw_m5 157 rfl
theorem q1199 : (Jvm.Cond.methodLink "PointsForAll$Lent" (23 : Nat) ({ cls := "PointsForAll$Points", name := "lends", desc := "(I)I" } : Jvm.MethodName)) ∈ lw_all := lw_g (lw_at lw_m5 158 rfl) rfl
theorem q1215 : (Jvm.Cond.castable "PointsForAll$Lent" "PointsForAll$Tells") ∈ lw_tbl := lw_at lw_m5 174 rfl
theorem q1216 : (Jvm.Cond.selects "PointsForAll$Lent" ({ cls := "PointsForAll$Tells", name := "tells", desc := "(I)I" } : Jvm.MethodName) ({ cls := "PointsForAll$Purse", name := "tells", desc := "(I)I" } : Jvm.MethodName)) ∈ lw_all := lw_g (lw_at lw_m5 175 rfl) rfl
theorem q1217 : (Jvm.Cond.unhidden "PointsForAll$Lent" "tells" "(I)I") ∈ lw_tbl := lw_at lw_m5 176 rfl
theorem q1400 : (Jvm.Cond.instanceMethod ({ cls := "PointsForAll$Lent", name := "isUnder", desc := "(I)Z" } : Jvm.MethodName)) ∈ lw_all := lw_g (lw_at lw_m6 119 rfl) rfl
theorem q1401 : (Jvm.Cond.code ({ cls := "PointsForAll$Lent", name := "isUnder", desc := "(I)Z" } : Jvm.MethodName) prog_15_method_3_code (2 : Nat) (Option.some Jvm.ClassFile.FieldType.boolean)) ∈ lw_all := lw_g (lw_at lw_m6 120 rfl) rfl
theorem q1402 : (Jvm.Cond.methodLink "PointsForAll$Lent" (13 : Nat) ({ cls := "PointsForAll$Points", name := "isUnder", desc := "(I)Z" } : Jvm.MethodName)) ∈ lw_all := lw_g (lw_at lw_m6 121 rfl) rfl
theorem q1412 : (Jvm.Cond.selects "PointsForAll$Lent" ({ cls := "PointsForAll$Purse", name := "isUnder", desc := "(I)Z" } : Jvm.MethodName) ({ cls := "PointsForAll$Lent", name := "isUnder", desc := "(I)Z" } : Jvm.MethodName)) ∈ lw_all := lw_g (lw_at lw_m6 131 rfl) rfl
theorem q1432 : (Jvm.Cond.selects "PointsForAll$Lent" ({ cls := "PointsForAll$Purse", name := "kind", desc := "()I" } : Jvm.MethodName) ({ cls := "PointsForAll$Lent", name := "kind", desc := "()I" } : Jvm.MethodName)) ∈ lw_all := lw_g (lw_at lw_m6 151 rfl) rfl
theorem q1433 : (Jvm.Cond.instanceMethod ({ cls := "PointsForAll$Lent", name := "kind", desc := "()I" } : Jvm.MethodName)) ∈ lw_all := lw_g (lw_at lw_m6 152 rfl) rfl
theorem q1434 : (Jvm.Cond.code ({ cls := "PointsForAll$Lent", name := "kind", desc := "()I" } : Jvm.MethodName) prog_15_method_2_code (1 : Nat) (Option.some Jvm.ClassFile.FieldType.int)) ∈ lw_all := lw_g (lw_at lw_m6 153 rfl) rfl
theorem q1996 : (Jvm.Cond.selects "PointsForAll$Lent" ({ cls := "PointsForAll$Purse", name := "buys", desc := "(I)I" } : Jvm.MethodName) ({ cls := "PointsForAll$Purse", name := "buys", desc := "(I)I" } : Jvm.MethodName)) ∈ lw_all := lw_g (lw_at lw_m8 235 rfl) rfl
theorem q2005 : (Jvm.Cond.selects "PointsForAll$Lent" ({ cls := "PointsForAll$Purse", name := "lends", desc := "(I)I" } : Jvm.MethodName) ({ cls := "PointsForAll$Lent", name := "lends", desc := "(I)I" } : Jvm.MethodName)) ∈ lw_all := lw_g (lw_at lw_m9 4 rfl) rfl
theorem q2020 : (Jvm.Cond.castable "PointsForAll$Lent" "PointsForAll$Purse") ∈ lw_tbl := lw_at lw_m9 19 rfl
theorem q2025 : (Jvm.Cond.castable "PointsForAll$Lent" "PointsForAll$Held") ∈ lw_tbl := lw_at lw_m9 24 rfl
theorem in_X18 : ∀ w ∈ wsX180, w ∈ lw_all := lw_in wsX180 [1020, 1021, 1019, 1017] (by decide +kernel) (by decide +kernel)

/-! PointsForAll$Changed -/
set_option maxRecDepth 100000
def RX19 : String := "PointsForAll$Changed"
def TX19 : u_T := fun k => match k with
  | 0 => ("PointsForAll$Purse", "number", "I", true)
  | 1 => ("PointsForAll$Purse", "this$0", "LPointsForAll;", true)
  | 2 => ("PointsForAll$Points", "this$0", "LPointsForAll;", true)
  | _ => ("PointsForAll$Changed", "this$0", "LPointsForAll;", true)
def tyX19 : Nat → FieldType := fun k => match k with
  | 0 => .int
  | 1 => .object "PointsForAll"
  | 2 => .object "PointsForAll"
  | _ => .object "PointsForAll"
abbrev wsX190 : List Cond := u_ws RX19 TX19 4
-- two fields of one name: no nmX19
theorem tyX19_ok : ∀ k, k < 4 → parseFieldDescriptor (TX19 k).2.2.1 = some (tyX19 k) := by decide +kernel
abbrev cX19_init : ByteArray := prog_8_method_1_code
def yX19_init : MethodName := ⟨RX19, "<init>", "(LPointsForAll;I)V"⟩
def dkwX19_init_0 : List UInt8 := [42, 43, 181, 0, 1, 42, 43, 28, 183, 0, 7, 177]
abbrev dktX19_init_0 : List UInt8 := dkwX19_init_0 ++ []
theorem dksX19_init_0 : cX19_init.data.toList.drop 0 = dktX19_init_0 := by decide +kernel
theorem dX19_init_0 : decode cX19_init 0 = .ok (.aload_n 0, 1) := dk_42 (dk_at dksX19_init_0 0 rfl rfl)
theorem dX19_init_1 : decode cX19_init 1 = .ok (.aload_n 1, 1) := dk_43 (dk_at dksX19_init_0 1 rfl rfl)
theorem dX19_init_2 : decode cX19_init 2 = .ok (.putfield 1, 3) := dk_181 0 1 (dk_at dksX19_init_0 2 rfl rfl)
theorem dX19_init_5 : decode cX19_init 5 = .ok (.aload_n 0, 1) := dk_42 (dk_at dksX19_init_0 5 rfl rfl)
theorem dX19_init_6 : decode cX19_init 6 = .ok (.aload_n 1, 1) := dk_43 (dk_at dksX19_init_0 6 rfl rfl)
theorem dX19_init_7 : decode cX19_init 7 = .ok (.iload_n 2, 1) := dk_28 (dk_at dksX19_init_0 7 rfl rfl)
theorem dX19_init_8 : decode cX19_init 8 = .ok (.invokespecial 7, 3) := dk_183 0 7 (dk_at dksX19_init_0 8 rfl rfl)
theorem dX19_init_11 : decode cX19_init 11 = .ok (.return_, 1) := dk_177 (dk_at dksX19_init_0 11 rfl rfl)
abbrev cX19_lends : ByteArray := prog_8_method_4_code
def yX19_lends : MethodName := ⟨RX19, "lends", "(I)I"⟩
def dkwX19_lends_0 : List UInt8 := [42, 180, 0, 1, 16, 50, 182, 0, 17, 42, 27, 183, 0, 23, 61, 28, 42, 5, 182, 0, 27, 100, 172]
abbrev dktX19_lends_0 : List UInt8 := dkwX19_lends_0 ++ []
theorem dksX19_lends_0 : cX19_lends.data.toList.drop 0 = dktX19_lends_0 := by decide +kernel
theorem dX19_lends_0 : decode cX19_lends 0 = .ok (.aload_n 0, 1) := dk_42 (dk_at dksX19_lends_0 0 rfl rfl)
theorem dX19_lends_1 : decode cX19_lends 1 = .ok (.getfield 1, 3) := dk_180 0 1 (dk_at dksX19_lends_0 1 rfl rfl)
theorem dX19_lends_4 : decode cX19_lends 4 = .ok (.bipush 50, 2) := dk_16 50 (dk_at dksX19_lends_0 4 rfl rfl)
theorem dX19_lends_6 : decode cX19_lends 6 = .ok (.invokevirtual 17, 3) := dk_182 0 17 (dk_at dksX19_lends_0 6 rfl rfl)
theorem dX19_lends_9 : decode cX19_lends 9 = .ok (.aload_n 0, 1) := dk_42 (dk_at dksX19_lends_0 9 rfl rfl)
theorem dX19_lends_10 : decode cX19_lends 10 = .ok (.iload_n 1, 1) := dk_27 (dk_at dksX19_lends_0 10 rfl rfl)
theorem dX19_lends_11 : decode cX19_lends 11 = .ok (.invokespecial 23, 3) := dk_183 0 23 (dk_at dksX19_lends_0 11 rfl rfl)
theorem dX19_lends_14 : decode cX19_lends 14 = .ok (.istore_n 2, 1) := dk_61 (dk_at dksX19_lends_0 14 rfl rfl)
theorem dX19_lends_15 : decode cX19_lends 15 = .ok (.iload_n 2, 1) := dk_28 (dk_at dksX19_lends_0 15 rfl rfl)
theorem dX19_lends_16 : decode cX19_lends 16 = .ok (.aload_n 0, 1) := dk_42 (dk_at dksX19_lends_0 16 rfl rfl)
theorem dX19_lends_17 : decode cX19_lends 17 = .ok (.iconst 2, 1) := dk_5 (dk_at dksX19_lends_0 17 rfl rfl)
theorem dX19_lends_18 : decode cX19_lends 18 = .ok (.invokevirtual 27, 3) := dk_182 0 27 (dk_at dksX19_lends_0 18 rfl rfl)
theorem dX19_lends_21 : decode cX19_lends 21 = .ok (.isub, 1) := dk_100 (dk_at dksX19_lends_0 21 rfl rfl)
theorem dX19_lends_22 : decode cX19_lends 22 = .ok (.ireturn, 1) := dk_172 (dk_at dksX19_lends_0 22 rfl rfl)
abbrev cX19_isUnder : ByteArray := prog_8_method_3_code
def yX19_isUnder : MethodName := ⟨RX19, "isUnder", "(I)Z"⟩
def dkwX19_isUnder_0 : List UInt8 := [27, 7, 159, 0, 11, 42, 27, 183, 0, 13, 153, 0, 7, 4, 167, 0, 4, 3, 172]
abbrev dktX19_isUnder_0 : List UInt8 := dkwX19_isUnder_0 ++ []
theorem dksX19_isUnder_0 : cX19_isUnder.data.toList.drop 0 = dktX19_isUnder_0 := by decide +kernel
theorem dX19_isUnder_0 : decode cX19_isUnder 0 = .ok (.iload_n 1, 1) := dk_27 (dk_at dksX19_isUnder_0 0 rfl rfl)
theorem dX19_isUnder_1 : decode cX19_isUnder 1 = .ok (.iconst 4, 1) := dk_7 (dk_at dksX19_isUnder_0 1 rfl rfl)
theorem dX19_isUnder_2 : decode cX19_isUnder 2 = .ok (.if_icmp .eq 11, 3) := dk_159 0 11 (dk_at dksX19_isUnder_0 2 rfl rfl)
theorem dX19_isUnder_5 : decode cX19_isUnder 5 = .ok (.aload_n 0, 1) := dk_42 (dk_at dksX19_isUnder_0 5 rfl rfl)
theorem dX19_isUnder_6 : decode cX19_isUnder 6 = .ok (.iload_n 1, 1) := dk_27 (dk_at dksX19_isUnder_0 6 rfl rfl)
theorem dX19_isUnder_7 : decode cX19_isUnder 7 = .ok (.invokespecial 13, 3) := dk_183 0 13 (dk_at dksX19_isUnder_0 7 rfl rfl)
theorem dX19_isUnder_10 : decode cX19_isUnder 10 = .ok (.ifCond .eq 7, 3) := dk_153 0 7 (dk_at dksX19_isUnder_0 10 rfl rfl)
theorem dX19_isUnder_13 : decode cX19_isUnder 13 = .ok (.iconst 1, 1) := dk_4 (dk_at dksX19_isUnder_0 13 rfl rfl)
theorem dX19_isUnder_14 : decode cX19_isUnder 14 = .ok (.goto 4, 3) := dk_167 0 4 (dk_at dksX19_isUnder_0 14 rfl rfl)
theorem dX19_isUnder_17 : decode cX19_isUnder 17 = .ok (.iconst 0, 1) := dk_3 (dk_at dksX19_isUnder_0 17 rfl rfl)
theorem dX19_isUnder_18 : decode cX19_isUnder 18 = .ok (.ireturn, 1) := dk_172 (dk_at dksX19_isUnder_0 18 rfl rfl)
abbrev cX19_kind : ByteArray := prog_8_method_2_code
def yX19_kind : MethodName := ⟨RX19, "kind", "()I"⟩
theorem dX19_kind_0 : decode cX19_kind 0 = .ok (.iconst 4, 1) := by decide +kernel
theorem dX19_kind_1 : decode cX19_kind 1 = .ok (.ireturn, 1) := by decide +kernel
theorem q115 : (Jvm.Cond.initialized "PointsForAll$Changed") ∈ lw_all := lw_g (lw_at lw_m1 34 rfl) rfl
theorem q1024 : (Jvm.Cond.instantiable "PointsForAll$Changed" (4 : Nat)) ∈ lw_all := lw_g (lw_at lw_m4 223 rfl) rfl
theorem q1026 : (Jvm.Cond.instanceMethod ({ cls := "PointsForAll$Changed", name := "<init>", desc := "(LPointsForAll;I)V" } : Jvm.MethodName)) ∈ lw_all := lw_g (lw_at lw_m4 225 rfl) rfl
theorem q1027 : (Jvm.Cond.code ({ cls := "PointsForAll$Changed", name := "<init>", desc := "(LPointsForAll;I)V" } : Jvm.MethodName) prog_8_method_1_code (3 : Nat) (Option.none : Option Jvm.ClassFile.FieldType)) ∈ lw_all := lw_g (lw_at lw_m4 226 rfl) rfl
theorem q1028 : (Jvm.Cond.methodLink "PointsForAll$Changed" (7 : Nat) ({ cls := "PointsForAll$Points", name := "<init>", desc := "(LPointsForAll;I)V" } : Jvm.MethodName)) ∈ lw_all := lw_g (lw_at lw_m4 227 rfl) rfl
theorem q1029 : (Jvm.Cond.fieldLink "PointsForAll$Changed" (1 : Nat) "PointsForAll$Changed" "this$0" "LPointsForAll;") ∈ lw_all := lw_g (lw_at lw_m4 228 rfl) rfl
theorem q1030 : (Jvm.Cond.laysFinal "PointsForAll$Changed" "PointsForAll$Changed" "this$0" "LPointsForAll;") ∈ lw_all := lw_g (lw_at lw_m4 229 rfl) rfl
theorem q1031 : (Jvm.Cond.soleField "PointsForAll$Changed" "this$0") ∈ lw_all := lw_g (lw_at lw_m4 230 rfl) rfl
theorem q1032 : (Jvm.Cond.laysFinal "PointsForAll$Changed" "PointsForAll$Points" "this$0" "LPointsForAll;") ∈ lw_all := lw_g (lw_at lw_m4 231 rfl) rfl
theorem q1033 : (Jvm.Cond.laysFinal "PointsForAll$Changed" "PointsForAll$Purse" "number" "I") ∈ lw_all := lw_g (lw_at lw_m4 232 rfl) rfl
theorem q1034 : (Jvm.Cond.laysFinal "PointsForAll$Changed" "PointsForAll$Purse" "this$0" "LPointsForAll;") ∈ lw_all := lw_g (lw_at lw_m4 233 rfl) rfl
theorem q1035 : (Jvm.Cond.superclass "PointsForAll$Changed" "PointsForAll$Points") ∈ lw_all := lw_g (lw_at lw_m4 234 rfl) rfl
theorem q1113 : (Jvm.Cond.castable "PointsForAll$Changed" "PointsForAll$Buys") ∈ lw_tbl := lw_at lw_m5 72 rfl
theorem q1114 : (Jvm.Cond.selects "PointsForAll$Changed" ({ cls := "PointsForAll$Buys", name := "buys", desc := "(I)I" } : Jvm.MethodName) ({ cls := "PointsForAll$Purse", name := "buys", desc := "(I)I" } : Jvm.MethodName)) ∈ lw_all := lw_g (lw_at lw_m5 73 rfl) rfl
theorem q1115 : (Jvm.Cond.unhidden "PointsForAll$Changed" "buys" "(I)I") ∈ lw_tbl := lw_at lw_m5 74 rfl
theorem q1170 : (Jvm.Cond.sameMethod "PointsForAll$Changed" "PointsForAll$Points" "keeps" "(I)I") ∈ lw_all := lw_g (lw_at lw_m5 129 rfl) rfl
theorem q1174 : (Jvm.Cond.declares ({ cls := "PointsForAll$Changed", name := "lends", desc := "(I)I" } : Jvm.MethodName)) ∈ lw_tbl := lw_at lw_m5 133 rfl
theorem q1176 : (Jvm.Cond.instanceMethod ({ cls := "PointsForAll$Changed", name := "lends", desc := "(I)I" } : Jvm.MethodName)) ∈ lw_all := lw_g (lw_at lw_m5 135 rfl) rfl
theorem q1177 : (Jvm.Cond.code ({ cls := "PointsForAll$Changed", name := "lends", desc := "(I)I" } : Jvm.MethodName) prog_8_method_4_code (3 : Nat) (Option.some Jvm.ClassFile.FieldType.int)) ∈ lw_all := lw_g (lw_at lw_m5 136 rfl) rfl
theorem q1178 : (Jvm.Cond.methodLinkNest "PointsForAll$Changed" (17 : Nat) ({ cls := "PointsForAll", name := "ran", desc := "(I)V" } : Jvm.MethodName) "PointsForAll") ∈ lw_tbl := lw_at lw_m5 137 rfl
theorem q1179 : (Jvm.Cond.methodLink "PointsForAll$Changed" (23 : Nat) ({ cls := "PointsForAll$Points", name := "lends", desc := "(I)I" } : Jvm.MethodName)) ∈ lw_all := lw_g (lw_at lw_m5 138 rfl) rfl
theorem q1184 : (Jvm.Cond.methodLink "PointsForAll$Changed" (27 : Nat) ({ cls := "PointsForAll$Changed", name := "buys", desc := "(I)I" } : Jvm.MethodName)) ∈ lw_all := lw_g (lw_at lw_m5 143 rfl) rfl
theorem q1185 : (Jvm.Cond.sameMethod "PointsForAll$Changed" "PointsForAll$Purse" "buys" "(I)I") ∈ lw_all := lw_g (lw_at lw_m5 144 rfl) rfl
theorem q1187 : (Jvm.Cond.selects "PointsForAll$Changed" ({ cls := "PointsForAll$Changed", name := "buys", desc := "(I)I" } : Jvm.MethodName) ({ cls := "PointsForAll$Purse", name := "buys", desc := "(I)I" } : Jvm.MethodName)) ∈ lw_all := lw_g (lw_at lw_m5 146 rfl) rfl
theorem q1188 : (Jvm.Cond.selects "PointsForAll$Changed" ({ cls := "PointsForAll$Purse", name := "keeps", desc := "(I)I" } : Jvm.MethodName) ({ cls := "PointsForAll$Points", name := "keeps", desc := "(I)I" } : Jvm.MethodName)) ∈ lw_all := lw_g (lw_at lw_m5 147 rfl) rfl
theorem q1207 : (Jvm.Cond.sameMethod "PointsForAll$Changed" "PointsForAll$Purse" "tells" "(I)I") ∈ lw_all := lw_g (lw_at lw_m5 166 rfl) rfl
theorem q1208 : (Jvm.Cond.castable "PointsForAll$Changed" "PointsForAll$Tells") ∈ lw_tbl := lw_at lw_m5 167 rfl
theorem q1209 : (Jvm.Cond.selects "PointsForAll$Changed" ({ cls := "PointsForAll$Tells", name := "tells", desc := "(I)I" } : Jvm.MethodName) ({ cls := "PointsForAll$Purse", name := "tells", desc := "(I)I" } : Jvm.MethodName)) ∈ lw_all := lw_g (lw_at lw_m5 168 rfl) rfl
theorem q1210 : (Jvm.Cond.unhidden "PointsForAll$Changed" "tells" "(I)I") ∈ lw_tbl := lw_at lw_m5 169 rfl
theorem q1407 : (Jvm.Cond.instanceMethod ({ cls := "PointsForAll$Changed", name := "isUnder", desc := "(I)Z" } : Jvm.MethodName)) ∈ lw_all := lw_g (lw_at lw_m6 126 rfl) rfl
theorem q1408 : (Jvm.Cond.code ({ cls := "PointsForAll$Changed", name := "isUnder", desc := "(I)Z" } : Jvm.MethodName) prog_8_method_3_code (2 : Nat) (Option.some Jvm.ClassFile.FieldType.boolean)) ∈ lw_all := lw_g (lw_at lw_m6 127 rfl) rfl
theorem q1409 : (Jvm.Cond.methodLink "PointsForAll$Changed" (13 : Nat) ({ cls := "PointsForAll$Points", name := "isUnder", desc := "(I)Z" } : Jvm.MethodName)) ∈ lw_all := lw_g (lw_at lw_m6 128 rfl) rfl
theorem q1410 : (Jvm.Cond.selects "PointsForAll$Changed" ({ cls := "PointsForAll$Purse", name := "isUnder", desc := "(I)Z" } : Jvm.MethodName) ({ cls := "PointsForAll$Changed", name := "isUnder", desc := "(I)Z" } : Jvm.MethodName)) ∈ lw_all := lw_g (lw_at lw_m6 129 rfl) rfl
theorem q1426 : (Jvm.Cond.selects "PointsForAll$Changed" ({ cls := "PointsForAll$Purse", name := "kind", desc := "()I" } : Jvm.MethodName) ({ cls := "PointsForAll$Changed", name := "kind", desc := "()I" } : Jvm.MethodName)) ∈ lw_all := lw_g (lw_at lw_m6 145 rfl) rfl
theorem q1427 : (Jvm.Cond.instanceMethod ({ cls := "PointsForAll$Changed", name := "kind", desc := "()I" } : Jvm.MethodName)) ∈ lw_all := lw_g (lw_at lw_m6 146 rfl) rfl
theorem q1428 : (Jvm.Cond.code ({ cls := "PointsForAll$Changed", name := "kind", desc := "()I" } : Jvm.MethodName) prog_8_method_2_code (1 : Nat) (Option.some Jvm.ClassFile.FieldType.int)) ∈ lw_all := lw_g (lw_at lw_m6 147 rfl) rfl
theorem q1994 : (Jvm.Cond.selects "PointsForAll$Changed" ({ cls := "PointsForAll$Purse", name := "buys", desc := "(I)I" } : Jvm.MethodName) ({ cls := "PointsForAll$Purse", name := "buys", desc := "(I)I" } : Jvm.MethodName)) ∈ lw_all := lw_g (lw_at lw_m8 233 rfl) rfl
theorem q2003 : (Jvm.Cond.selects "PointsForAll$Changed" ({ cls := "PointsForAll$Purse", name := "lends", desc := "(I)I" } : Jvm.MethodName) ({ cls := "PointsForAll$Changed", name := "lends", desc := "(I)I" } : Jvm.MethodName)) ∈ lw_all := lw_g (lw_at lw_m9 2 rfl) rfl
theorem q2018 : (Jvm.Cond.castable "PointsForAll$Changed" "PointsForAll$Purse") ∈ lw_tbl := lw_at lw_m9 17 rfl
theorem q2026 : (Jvm.Cond.castable "PointsForAll$Changed" "PointsForAll$Held") ∈ lw_tbl := lw_at lw_m9 25 rfl
theorem in_X19 : ∀ w ∈ wsX190, w ∈ lw_all := lw_in wsX190 [1033, 1034, 1032, 1030] (by decide +kernel) (by decide +kernel)

/-! PointsForAll$Baby -/
set_option maxRecDepth 100000
def RX20 : String := "PointsForAll$Baby"
def TX20 : u_T := fun k => match k with
  | 0 => ("PointsForAll$Purse", "number", "I", true)
  | 1 => ("PointsForAll$Purse", "this$0", "LPointsForAll;", true)
  | 2 => ("PointsForAll$Points", "this$0", "LPointsForAll;", true)
  | 3 => ("PointsForAll$Lent", "this$0", "LPointsForAll;", true)
  | _ => ("PointsForAll$Baby", "this$0", "LPointsForAll;", true)
def tyX20 : Nat → FieldType := fun k => match k with
  | 0 => .int
  | 1 => .object "PointsForAll"
  | 2 => .object "PointsForAll"
  | 3 => .object "PointsForAll"
  | _ => .object "PointsForAll"
abbrev wsX200 : List Cond := u_ws RX20 TX20 5
-- two fields of one name: no nmX20
theorem tyX20_ok : ∀ k, k < 5 → parseFieldDescriptor (TX20 k).2.2.1 = some (tyX20 k) := by decide +kernel
abbrev cX20_init : ByteArray := prog_2_method_1_code
def yX20_init : MethodName := ⟨RX20, "<init>", "(LPointsForAll;I)V"⟩
def dkwX20_init_0 : List UInt8 := [42, 43, 181, 0, 1, 42, 43, 28, 183, 0, 7, 177]
abbrev dktX20_init_0 : List UInt8 := dkwX20_init_0 ++ []
theorem dksX20_init_0 : cX20_init.data.toList.drop 0 = dktX20_init_0 := by decide +kernel
theorem dX20_init_0 : decode cX20_init 0 = .ok (.aload_n 0, 1) := dk_42 (dk_at dksX20_init_0 0 rfl rfl)
theorem dX20_init_1 : decode cX20_init 1 = .ok (.aload_n 1, 1) := dk_43 (dk_at dksX20_init_0 1 rfl rfl)
theorem dX20_init_2 : decode cX20_init 2 = .ok (.putfield 1, 3) := dk_181 0 1 (dk_at dksX20_init_0 2 rfl rfl)
theorem dX20_init_5 : decode cX20_init 5 = .ok (.aload_n 0, 1) := dk_42 (dk_at dksX20_init_0 5 rfl rfl)
theorem dX20_init_6 : decode cX20_init 6 = .ok (.aload_n 1, 1) := dk_43 (dk_at dksX20_init_0 6 rfl rfl)
theorem dX20_init_7 : decode cX20_init 7 = .ok (.iload_n 2, 1) := dk_28 (dk_at dksX20_init_0 7 rfl rfl)
theorem dX20_init_8 : decode cX20_init 8 = .ok (.invokespecial 7, 3) := dk_183 0 7 (dk_at dksX20_init_0 8 rfl rfl)
theorem dX20_init_11 : decode cX20_init 11 = .ok (.return_, 1) := dk_177 (dk_at dksX20_init_0 11 rfl rfl)
abbrev cX20_buys : ByteArray := prog_2_method_3_code
def yX20_buys : MethodName := ⟨RX20, "buys", "(I)I"⟩
def dkwX20_buys_0 : List UInt8 := [42, 180, 0, 1, 16, 60, 182, 0, 13, 42, 27, 4, 96, 183, 0, 19, 172]
abbrev dktX20_buys_0 : List UInt8 := dkwX20_buys_0 ++ []
theorem dksX20_buys_0 : cX20_buys.data.toList.drop 0 = dktX20_buys_0 := by decide +kernel
theorem dX20_buys_0 : decode cX20_buys 0 = .ok (.aload_n 0, 1) := dk_42 (dk_at dksX20_buys_0 0 rfl rfl)
theorem dX20_buys_1 : decode cX20_buys 1 = .ok (.getfield 1, 3) := dk_180 0 1 (dk_at dksX20_buys_0 1 rfl rfl)
theorem dX20_buys_4 : decode cX20_buys 4 = .ok (.bipush 60, 2) := dk_16 60 (dk_at dksX20_buys_0 4 rfl rfl)
theorem dX20_buys_6 : decode cX20_buys 6 = .ok (.invokevirtual 13, 3) := dk_182 0 13 (dk_at dksX20_buys_0 6 rfl rfl)
theorem dX20_buys_9 : decode cX20_buys 9 = .ok (.aload_n 0, 1) := dk_42 (dk_at dksX20_buys_0 9 rfl rfl)
theorem dX20_buys_10 : decode cX20_buys 10 = .ok (.iload_n 1, 1) := dk_27 (dk_at dksX20_buys_0 10 rfl rfl)
theorem dX20_buys_11 : decode cX20_buys 11 = .ok (.iconst 1, 1) := dk_4 (dk_at dksX20_buys_0 11 rfl rfl)
theorem dX20_buys_12 : decode cX20_buys 12 = .ok (.iadd, 1) := dk_96 (dk_at dksX20_buys_0 12 rfl rfl)
theorem dX20_buys_13 : decode cX20_buys 13 = .ok (.invokespecial 19, 3) := dk_183 0 19 (dk_at dksX20_buys_0 13 rfl rfl)
theorem dX20_buys_16 : decode cX20_buys 16 = .ok (.ireturn, 1) := dk_172 (dk_at dksX20_buys_0 16 rfl rfl)
abbrev cX20_tells : ByteArray := prog_2_method_4_code
def yX20_tells : MethodName := ⟨RX20, "tells", "(I)I"⟩
def dkwX20_tells_0 : List UInt8 := [42, 180, 0, 1, 16, 61, 182, 0, 13, 42, 27, 183, 0, 23, 8, 130, 172]
abbrev dktX20_tells_0 : List UInt8 := dkwX20_tells_0 ++ []
theorem dksX20_tells_0 : cX20_tells.data.toList.drop 0 = dktX20_tells_0 := by decide +kernel
theorem dX20_tells_0 : decode cX20_tells 0 = .ok (.aload_n 0, 1) := dk_42 (dk_at dksX20_tells_0 0 rfl rfl)
theorem dX20_tells_1 : decode cX20_tells 1 = .ok (.getfield 1, 3) := dk_180 0 1 (dk_at dksX20_tells_0 1 rfl rfl)
theorem dX20_tells_4 : decode cX20_tells 4 = .ok (.bipush 61, 2) := dk_16 61 (dk_at dksX20_tells_0 4 rfl rfl)
theorem dX20_tells_6 : decode cX20_tells 6 = .ok (.invokevirtual 13, 3) := dk_182 0 13 (dk_at dksX20_tells_0 6 rfl rfl)
theorem dX20_tells_9 : decode cX20_tells 9 = .ok (.aload_n 0, 1) := dk_42 (dk_at dksX20_tells_0 9 rfl rfl)
theorem dX20_tells_10 : decode cX20_tells 10 = .ok (.iload_n 1, 1) := dk_27 (dk_at dksX20_tells_0 10 rfl rfl)
theorem dX20_tells_11 : decode cX20_tells 11 = .ok (.invokespecial 23, 3) := dk_183 0 23 (dk_at dksX20_tells_0 11 rfl rfl)
theorem dX20_tells_14 : decode cX20_tells 14 = .ok (.iconst 5, 1) := dk_8 (dk_at dksX20_tells_0 14 rfl rfl)
theorem dX20_tells_15 : decode cX20_tells 15 = .ok (.ixor, 1) := dk_130 (dk_at dksX20_tells_0 15 rfl rfl)
theorem dX20_tells_16 : decode cX20_tells 16 = .ok (.ireturn, 1) := dk_172 (dk_at dksX20_tells_0 16 rfl rfl)
abbrev cX20_kind : ByteArray := prog_2_method_2_code
def yX20_kind : MethodName := ⟨RX20, "kind", "()I"⟩
theorem dX20_kind_0 : decode cX20_kind 0 = .ok (.iconst 5, 1) := by decide +kernel
theorem dX20_kind_1 : decode cX20_kind 1 = .ok (.ireturn, 1) := by decide +kernel
theorem q116 : (Jvm.Cond.initialized "PointsForAll$Baby") ∈ lw_all := lw_g (lw_at lw_m1 35 rfl) rfl
theorem q1037 : (Jvm.Cond.instantiable "PointsForAll$Baby" (5 : Nat)) ∈ lw_all := lw_g (lw_at lw_m4 236 rfl) rfl
theorem q1039 : (Jvm.Cond.instanceMethod ({ cls := "PointsForAll$Baby", name := "<init>", desc := "(LPointsForAll;I)V" } : Jvm.MethodName)) ∈ lw_all := lw_g (lw_at lw_m4 238 rfl) rfl
theorem q1040 : (Jvm.Cond.code ({ cls := "PointsForAll$Baby", name := "<init>", desc := "(LPointsForAll;I)V" } : Jvm.MethodName) prog_2_method_1_code (3 : Nat) (Option.none : Option Jvm.ClassFile.FieldType)) ∈ lw_all := lw_g (lw_at lw_m4 239 rfl) rfl
theorem q1041 : (Jvm.Cond.methodLink "PointsForAll$Baby" (7 : Nat) ({ cls := "PointsForAll$Lent", name := "<init>", desc := "(LPointsForAll;I)V" } : Jvm.MethodName)) ∈ lw_all := lw_g (lw_at lw_m5 0 rfl) rfl
theorem q1042 : (Jvm.Cond.fieldLink "PointsForAll$Baby" (1 : Nat) "PointsForAll$Baby" "this$0" "LPointsForAll;") ∈ lw_all := lw_g (lw_at lw_m5 1 rfl) rfl
theorem q1043 : (Jvm.Cond.laysFinal "PointsForAll$Baby" "PointsForAll$Baby" "this$0" "LPointsForAll;") ∈ lw_all := lw_g (lw_at lw_m5 2 rfl) rfl
theorem q1044 : (Jvm.Cond.soleField "PointsForAll$Baby" "this$0") ∈ lw_all := lw_g (lw_at lw_m5 3 rfl) rfl
theorem q1045 : (Jvm.Cond.laysFinal "PointsForAll$Baby" "PointsForAll$Lent" "this$0" "LPointsForAll;") ∈ lw_all := lw_g (lw_at lw_m5 4 rfl) rfl
theorem q1046 : (Jvm.Cond.laysFinal "PointsForAll$Baby" "PointsForAll$Points" "this$0" "LPointsForAll;") ∈ lw_all := lw_g (lw_at lw_m5 5 rfl) rfl
theorem q1047 : (Jvm.Cond.laysFinal "PointsForAll$Baby" "PointsForAll$Purse" "number" "I") ∈ lw_all := lw_g (lw_at lw_m5 6 rfl) rfl
theorem q1048 : (Jvm.Cond.laysFinal "PointsForAll$Baby" "PointsForAll$Purse" "this$0" "LPointsForAll;") ∈ lw_all := lw_g (lw_at lw_m5 7 rfl) rfl
theorem q1049 : (Jvm.Cond.superclass "PointsForAll$Baby" "PointsForAll$Lent") ∈ lw_all := lw_g (lw_at lw_m5 8 rfl) rfl
theorem q1093 : (Jvm.Cond.castable "PointsForAll$Baby" "PointsForAll$Buys") ∈ lw_tbl := lw_at lw_m5 52 rfl
theorem q1094 : (Jvm.Cond.selects "PointsForAll$Baby" ({ cls := "PointsForAll$Buys", name := "buys", desc := "(I)I" } : Jvm.MethodName) ({ cls := "PointsForAll$Baby", name := "buys", desc := "(I)I" } : Jvm.MethodName)) ∈ lw_all := lw_g (lw_at lw_m5 53 rfl) rfl
theorem q1095 : (Jvm.Cond.unhidden "PointsForAll$Baby" "buys" "(I)I") ∈ lw_tbl := lw_at lw_m5 54 rfl
theorem q1096 : (Jvm.Cond.instanceMethod ({ cls := "PointsForAll$Baby", name := "buys", desc := "(I)I" } : Jvm.MethodName)) ∈ lw_all := lw_g (lw_at lw_m5 55 rfl) rfl
theorem q1097 : (Jvm.Cond.publicMethod ({ cls := "PointsForAll$Baby", name := "buys", desc := "(I)I" } : Jvm.MethodName)) ∈ lw_tbl := lw_at lw_m5 56 rfl
theorem q1098 : (Jvm.Cond.code ({ cls := "PointsForAll$Baby", name := "buys", desc := "(I)I" } : Jvm.MethodName) prog_2_method_3_code (2 : Nat) (Option.some Jvm.ClassFile.FieldType.int)) ∈ lw_all := lw_g (lw_at lw_m5 57 rfl) rfl
theorem q1099 : (Jvm.Cond.methodLinkNest "PointsForAll$Baby" (13 : Nat) ({ cls := "PointsForAll", name := "ran", desc := "(I)V" } : Jvm.MethodName) "PointsForAll") ∈ lw_tbl := lw_at lw_m5 58 rfl
theorem q1103 : (Jvm.Cond.methodLink "PointsForAll$Baby" (19 : Nat) ({ cls := "PointsForAll$Lent", name := "buys", desc := "(I)I" } : Jvm.MethodName)) ∈ lw_all := lw_g (lw_at lw_m5 62 rfl) rfl
theorem q1145 : (Jvm.Cond.castable "PointsForAll$Baby" "PointsForAll$Tells") ∈ lw_tbl := lw_at lw_m5 104 rfl
theorem q1146 : (Jvm.Cond.selects "PointsForAll$Baby" ({ cls := "PointsForAll$Tells", name := "tells", desc := "(I)I" } : Jvm.MethodName) ({ cls := "PointsForAll$Baby", name := "tells", desc := "(I)I" } : Jvm.MethodName)) ∈ lw_all := lw_g (lw_at lw_m5 105 rfl) rfl
theorem q1147 : (Jvm.Cond.unhidden "PointsForAll$Baby" "tells" "(I)I") ∈ lw_tbl := lw_at lw_m5 106 rfl
theorem q1148 : (Jvm.Cond.instanceMethod ({ cls := "PointsForAll$Baby", name := "tells", desc := "(I)I" } : Jvm.MethodName)) ∈ lw_all := lw_g (lw_at lw_m5 107 rfl) rfl
theorem q1149 : (Jvm.Cond.publicMethod ({ cls := "PointsForAll$Baby", name := "tells", desc := "(I)I" } : Jvm.MethodName)) ∈ lw_tbl := lw_at lw_m5 108 rfl
theorem q1150 : (Jvm.Cond.code ({ cls := "PointsForAll$Baby", name := "tells", desc := "(I)I" } : Jvm.MethodName) prog_2_method_4_code (2 : Nat) (Option.some Jvm.ClassFile.FieldType.int)) ∈ lw_all := lw_g (lw_at lw_m5 109 rfl) rfl
theorem q1151 : (Jvm.Cond.methodLink "PointsForAll$Baby" (23 : Nat) ({ cls := "PointsForAll$Lent", name := "tells", desc := "(I)I" } : Jvm.MethodName)) ∈ lw_all := lw_g (lw_at lw_m5 110 rfl) rfl
theorem q1160 : (Jvm.Cond.selects "PointsForAll$Baby" ({ cls := "PointsForAll$Purse", name := "keeps", desc := "(I)I" } : Jvm.MethodName) ({ cls := "PointsForAll$Points", name := "keeps", desc := "(I)I" } : Jvm.MethodName)) ∈ lw_all := lw_g (lw_at lw_m5 119 rfl) rfl
theorem q1399 : (Jvm.Cond.selects "PointsForAll$Baby" ({ cls := "PointsForAll$Purse", name := "isUnder", desc := "(I)Z" } : Jvm.MethodName) ({ cls := "PointsForAll$Lent", name := "isUnder", desc := "(I)Z" } : Jvm.MethodName)) ∈ lw_all := lw_g (lw_at lw_m6 118 rfl) rfl
theorem q1420 : (Jvm.Cond.selects "PointsForAll$Baby" ({ cls := "PointsForAll$Purse", name := "kind", desc := "()I" } : Jvm.MethodName) ({ cls := "PointsForAll$Baby", name := "kind", desc := "()I" } : Jvm.MethodName)) ∈ lw_all := lw_g (lw_at lw_m6 139 rfl) rfl
theorem q1421 : (Jvm.Cond.instanceMethod ({ cls := "PointsForAll$Baby", name := "kind", desc := "()I" } : Jvm.MethodName)) ∈ lw_all := lw_g (lw_at lw_m6 140 rfl) rfl
theorem q1422 : (Jvm.Cond.code ({ cls := "PointsForAll$Baby", name := "kind", desc := "()I" } : Jvm.MethodName) prog_2_method_2_code (1 : Nat) (Option.some Jvm.ClassFile.FieldType.int)) ∈ lw_all := lw_g (lw_at lw_m6 141 rfl) rfl
theorem q1992 : (Jvm.Cond.selects "PointsForAll$Baby" ({ cls := "PointsForAll$Purse", name := "buys", desc := "(I)I" } : Jvm.MethodName) ({ cls := "PointsForAll$Baby", name := "buys", desc := "(I)I" } : Jvm.MethodName)) ∈ lw_all := lw_g (lw_at lw_m8 231 rfl) rfl
theorem q2001 : (Jvm.Cond.selects "PointsForAll$Baby" ({ cls := "PointsForAll$Purse", name := "lends", desc := "(I)I" } : Jvm.MethodName) ({ cls := "PointsForAll$Lent", name := "lends", desc := "(I)I" } : Jvm.MethodName)) ∈ lw_all := lw_g (lw_at lw_m9 0 rfl) rfl
theorem q2016 : (Jvm.Cond.castable "PointsForAll$Baby" "PointsForAll$Purse") ∈ lw_tbl := lw_at lw_m9 15 rfl
theorem q2027 : (Jvm.Cond.castable "PointsForAll$Baby" "PointsForAll$Held") ∈ lw_tbl := lw_at lw_m9 26 rfl
theorem in_X20 : ∀ w ∈ wsX200, w ∈ lw_all := lw_in wsX200 [1047, 1048, 1046, 1045, 1043] (by decide +kernel) (by decide +kernel)

/-! PointsForAll$Told -/
set_option maxRecDepth 100000
def RX21 : String := "PointsForAll$Told"
def TX21 : u_T := fun k => match k with
  | 0 => ("PointsForAll$Purse", "number", "I", true)
  | 1 => ("PointsForAll$Purse", "this$0", "LPointsForAll;", true)
  | _ => ("PointsForAll$Told", "this$0", "LPointsForAll;", true)
def tyX21 : Nat → FieldType := fun k => match k with
  | 0 => .int
  | 1 => .object "PointsForAll"
  | _ => .object "PointsForAll"
abbrev wsX210 : List Cond := u_ws RX21 TX21 3
-- two fields of one name: no nmX21
theorem tyX21_ok : ∀ k, k < 3 → parseFieldDescriptor (TX21 k).2.2.1 = some (tyX21 k) := by decide +kernel
abbrev cX21_init : ByteArray := prog_29_method_1_code
def yX21_init : MethodName := ⟨RX21, "<init>", "(LPointsForAll;I)V"⟩
def dkwX21_init_0 : List UInt8 := [42, 43, 181, 0, 1, 42, 43, 28, 183, 0, 7, 177]
abbrev dktX21_init_0 : List UInt8 := dkwX21_init_0 ++ []
theorem dksX21_init_0 : cX21_init.data.toList.drop 0 = dktX21_init_0 := by decide +kernel
theorem dX21_init_0 : decode cX21_init 0 = .ok (.aload_n 0, 1) := dk_42 (dk_at dksX21_init_0 0 rfl rfl)
theorem dX21_init_1 : decode cX21_init 1 = .ok (.aload_n 1, 1) := dk_43 (dk_at dksX21_init_0 1 rfl rfl)
theorem dX21_init_2 : decode cX21_init 2 = .ok (.putfield 1, 3) := dk_181 0 1 (dk_at dksX21_init_0 2 rfl rfl)
theorem dX21_init_5 : decode cX21_init 5 = .ok (.aload_n 0, 1) := dk_42 (dk_at dksX21_init_0 5 rfl rfl)
theorem dX21_init_6 : decode cX21_init 6 = .ok (.aload_n 1, 1) := dk_43 (dk_at dksX21_init_0 6 rfl rfl)
theorem dX21_init_7 : decode cX21_init 7 = .ok (.iload_n 2, 1) := dk_28 (dk_at dksX21_init_0 7 rfl rfl)
theorem dX21_init_8 : decode cX21_init 8 = .ok (.invokespecial 7, 3) := dk_183 0 7 (dk_at dksX21_init_0 8 rfl rfl)
theorem dX21_init_11 : decode cX21_init 11 = .ok (.return_, 1) := dk_177 (dk_at dksX21_init_0 11 rfl rfl)
abbrev cX21_buys : ByteArray := prog_29_method_3_code
def yX21_buys : MethodName := ⟨RX21, "buys", "(I)I"⟩
def dkwX21_buys_0 : List UInt8 := [42, 180, 0, 1, 16, 70, 182, 0, 13, 42, 27, 183, 0, 19, 5, 104, 172]
abbrev dktX21_buys_0 : List UInt8 := dkwX21_buys_0 ++ []
theorem dksX21_buys_0 : cX21_buys.data.toList.drop 0 = dktX21_buys_0 := by decide +kernel
theorem dX21_buys_0 : decode cX21_buys 0 = .ok (.aload_n 0, 1) := dk_42 (dk_at dksX21_buys_0 0 rfl rfl)
theorem dX21_buys_1 : decode cX21_buys 1 = .ok (.getfield 1, 3) := dk_180 0 1 (dk_at dksX21_buys_0 1 rfl rfl)
theorem dX21_buys_4 : decode cX21_buys 4 = .ok (.bipush 70, 2) := dk_16 70 (dk_at dksX21_buys_0 4 rfl rfl)
theorem dX21_buys_6 : decode cX21_buys 6 = .ok (.invokevirtual 13, 3) := dk_182 0 13 (dk_at dksX21_buys_0 6 rfl rfl)
theorem dX21_buys_9 : decode cX21_buys 9 = .ok (.aload_n 0, 1) := dk_42 (dk_at dksX21_buys_0 9 rfl rfl)
theorem dX21_buys_10 : decode cX21_buys 10 = .ok (.iload_n 1, 1) := dk_27 (dk_at dksX21_buys_0 10 rfl rfl)
theorem dX21_buys_11 : decode cX21_buys 11 = .ok (.invokespecial 19, 3) := dk_183 0 19 (dk_at dksX21_buys_0 11 rfl rfl)
theorem dX21_buys_14 : decode cX21_buys 14 = .ok (.iconst 2, 1) := dk_5 (dk_at dksX21_buys_0 14 rfl rfl)
theorem dX21_buys_15 : decode cX21_buys 15 = .ok (.imul, 1) := dk_104 (dk_at dksX21_buys_0 15 rfl rfl)
theorem dX21_buys_16 : decode cX21_buys 16 = .ok (.ireturn, 1) := dk_172 (dk_at dksX21_buys_0 16 rfl rfl)
abbrev cX21_kind : ByteArray := prog_29_method_2_code
def yX21_kind : MethodName := ⟨RX21, "kind", "()I"⟩
theorem dX21_kind_0 : decode cX21_kind 0 = .ok (.bipush 6, 2) := by decide +kernel
theorem dX21_kind_2 : decode cX21_kind 2 = .ok (.ireturn, 1) := by decide +kernel
theorem q117 : (Jvm.Cond.initialized "PointsForAll$Told") ∈ lw_all := lw_g (lw_at lw_m1 36 rfl) rfl
theorem q1051 : (Jvm.Cond.instantiable "PointsForAll$Told" (3 : Nat)) ∈ lw_all := lw_g (lw_at lw_m5 10 rfl) rfl
theorem q1053 : (Jvm.Cond.instanceMethod ({ cls := "PointsForAll$Told", name := "<init>", desc := "(LPointsForAll;I)V" } : Jvm.MethodName)) ∈ lw_all := lw_g (lw_at lw_m5 12 rfl) rfl
theorem q1054 : (Jvm.Cond.code ({ cls := "PointsForAll$Told", name := "<init>", desc := "(LPointsForAll;I)V" } : Jvm.MethodName) prog_29_method_1_code (3 : Nat) (Option.none : Option Jvm.ClassFile.FieldType)) ∈ lw_all := lw_g (lw_at lw_m5 13 rfl) rfl
theorem q1055 : (Jvm.Cond.methodLink "PointsForAll$Told" (7 : Nat) ({ cls := "PointsForAll$Purse", name := "<init>", desc := "(LPointsForAll;I)V" } : Jvm.MethodName)) ∈ lw_all := lw_g (lw_at lw_m5 14 rfl) rfl
theorem q1056 : (Jvm.Cond.fieldLink "PointsForAll$Told" (1 : Nat) "PointsForAll$Told" "this$0" "LPointsForAll;") ∈ lw_all := lw_g (lw_at lw_m5 15 rfl) rfl
theorem q1057 : (Jvm.Cond.laysFinal "PointsForAll$Told" "PointsForAll$Told" "this$0" "LPointsForAll;") ∈ lw_all := lw_g (lw_at lw_m5 16 rfl) rfl
theorem q1058 : (Jvm.Cond.soleField "PointsForAll$Told" "this$0") ∈ lw_all := lw_g (lw_at lw_m5 17 rfl) rfl
theorem q1059 : (Jvm.Cond.laysFinal "PointsForAll$Told" "PointsForAll$Purse" "number" "I") ∈ lw_all := lw_g (lw_at lw_m5 18 rfl) rfl
theorem q1060 : (Jvm.Cond.laysFinal "PointsForAll$Told" "PointsForAll$Purse" "this$0" "LPointsForAll;") ∈ lw_all := lw_g (lw_at lw_m5 19 rfl) rfl
theorem q1061 : (Jvm.Cond.superclass "PointsForAll$Told" "PointsForAll$Purse") ∈ lw_all := lw_g (lw_at lw_m5 20 rfl) rfl
theorem q1133 : (Jvm.Cond.castable "PointsForAll$Told" "PointsForAll$Buys") ∈ lw_tbl := lw_at lw_m5 92 rfl
theorem q1134 : (Jvm.Cond.selects "PointsForAll$Told" ({ cls := "PointsForAll$Buys", name := "buys", desc := "(I)I" } : Jvm.MethodName) ({ cls := "PointsForAll$Told", name := "buys", desc := "(I)I" } : Jvm.MethodName)) ∈ lw_all := lw_g (lw_at lw_m5 93 rfl) rfl
theorem q1135 : (Jvm.Cond.unhidden "PointsForAll$Told" "buys" "(I)I") ∈ lw_tbl := lw_at lw_m5 94 rfl
theorem q1136 : (Jvm.Cond.instanceMethod ({ cls := "PointsForAll$Told", name := "buys", desc := "(I)I" } : Jvm.MethodName)) ∈ lw_all := lw_g (lw_at lw_m5 95 rfl) rfl
theorem q1137 : (Jvm.Cond.publicMethod ({ cls := "PointsForAll$Told", name := "buys", desc := "(I)I" } : Jvm.MethodName)) ∈ lw_tbl := lw_at lw_m5 96 rfl
theorem q1138 : (Jvm.Cond.code ({ cls := "PointsForAll$Told", name := "buys", desc := "(I)I" } : Jvm.MethodName) prog_29_method_3_code (2 : Nat) (Option.some Jvm.ClassFile.FieldType.int)) ∈ lw_all := lw_g (lw_at lw_m5 97 rfl) rfl
theorem q1139 : (Jvm.Cond.methodLinkNest "PointsForAll$Told" (13 : Nat) ({ cls := "PointsForAll", name := "ran", desc := "(I)V" } : Jvm.MethodName) "PointsForAll") ∈ lw_tbl := lw_at lw_m5 98 rfl
theorem q1140 : (Jvm.Cond.methodLink "PointsForAll$Told" (19 : Nat) ({ cls := "PointsForAll$Purse", name := "buys", desc := "(I)I" } : Jvm.MethodName)) ∈ lw_all := lw_g (lw_at lw_m5 99 rfl) rfl
theorem q1192 : (Jvm.Cond.selects "PointsForAll$Told" ({ cls := "PointsForAll$Purse", name := "keeps", desc := "(I)I" } : Jvm.MethodName) ({ cls := "PointsForAll$Purse", name := "keeps", desc := "(I)I" } : Jvm.MethodName)) ∈ lw_all := lw_g (lw_at lw_m5 151 rfl) rfl
theorem q1224 : (Jvm.Cond.castable "PointsForAll$Told" "PointsForAll$Tells") ∈ lw_tbl := lw_at lw_m5 183 rfl
theorem q1225 : (Jvm.Cond.selects "PointsForAll$Told" ({ cls := "PointsForAll$Tells", name := "tells", desc := "(I)I" } : Jvm.MethodName) ({ cls := "PointsForAll$Purse", name := "tells", desc := "(I)I" } : Jvm.MethodName)) ∈ lw_all := lw_g (lw_at lw_m5 184 rfl) rfl
theorem q1226 : (Jvm.Cond.unhidden "PointsForAll$Told" "tells" "(I)I") ∈ lw_tbl := lw_at lw_m5 185 rfl
theorem q1414 : (Jvm.Cond.selects "PointsForAll$Told" ({ cls := "PointsForAll$Purse", name := "isUnder", desc := "(I)Z" } : Jvm.MethodName) ({ cls := "PointsForAll$Purse", name := "isUnder", desc := "(I)Z" } : Jvm.MethodName)) ∈ lw_all := lw_g (lw_at lw_m6 133 rfl) rfl
theorem q1438 : (Jvm.Cond.selects "PointsForAll$Told" ({ cls := "PointsForAll$Purse", name := "kind", desc := "()I" } : Jvm.MethodName) ({ cls := "PointsForAll$Told", name := "kind", desc := "()I" } : Jvm.MethodName)) ∈ lw_all := lw_g (lw_at lw_m6 157 rfl) rfl
theorem q1439 : (Jvm.Cond.instanceMethod ({ cls := "PointsForAll$Told", name := "kind", desc := "()I" } : Jvm.MethodName)) ∈ lw_all := lw_g (lw_at lw_m6 158 rfl) rfl
theorem q1440 : (Jvm.Cond.code ({ cls := "PointsForAll$Told", name := "kind", desc := "()I" } : Jvm.MethodName) prog_29_method_2_code (1 : Nat) (Option.some Jvm.ClassFile.FieldType.int)) ∈ lw_all := lw_g (lw_at lw_m6 159 rfl) rfl
theorem q1999 : (Jvm.Cond.selects "PointsForAll$Told" ({ cls := "PointsForAll$Purse", name := "buys", desc := "(I)I" } : Jvm.MethodName) ({ cls := "PointsForAll$Told", name := "buys", desc := "(I)I" } : Jvm.MethodName)) ∈ lw_all := lw_g (lw_at lw_m8 238 rfl) rfl
theorem q2008 : (Jvm.Cond.selects "PointsForAll$Told" ({ cls := "PointsForAll$Purse", name := "lends", desc := "(I)I" } : Jvm.MethodName) ({ cls := "PointsForAll$Purse", name := "lends", desc := "(I)I" } : Jvm.MethodName)) ∈ lw_all := lw_g (lw_at lw_m9 7 rfl) rfl
theorem q2022 : (Jvm.Cond.castable "PointsForAll$Told" "PointsForAll$Purse") ∈ lw_tbl := lw_at lw_m9 21 rfl
theorem q2028 : (Jvm.Cond.castable "PointsForAll$Told" "PointsForAll$Held") ∈ lw_tbl := lw_at lw_m9 27 rfl
theorem in_X21 : ∀ w ∈ wsX210, w ∈ lw_all := lw_in wsX210 [1059, 1060, 1057] (by decide +kernel) (by decide +kernel)

/-! PointsForAll$Black -/
set_option maxRecDepth 100000
def RX22 : String := "PointsForAll$Black"
def TX22 : u_T := fun k => match k with
  | 0 => ("PointsForAll$Purse", "number", "I", true)
  | 1 => ("PointsForAll$Purse", "this$0", "LPointsForAll;", true)
  | 2 => ("PointsForAll$Points", "this$0", "LPointsForAll;", true)
  | 3 => ("PointsForAll$Changed", "this$0", "LPointsForAll;", true)
  | _ => ("PointsForAll$Black", "this$0", "LPointsForAll;", true)
def tyX22 : Nat → FieldType := fun k => match k with
  | 0 => .int
  | 1 => .object "PointsForAll"
  | 2 => .object "PointsForAll"
  | 3 => .object "PointsForAll"
  | _ => .object "PointsForAll"
abbrev wsX220 : List Cond := u_ws RX22 TX22 5
-- two fields of one name: no nmX22
theorem tyX22_ok : ∀ k, k < 5 → parseFieldDescriptor (TX22 k).2.2.1 = some (tyX22 k) := by decide +kernel
abbrev cX22_init : ByteArray := prog_3_method_1_code
def yX22_init : MethodName := ⟨RX22, "<init>", "(LPointsForAll;I)V"⟩
def dkwX22_init_0 : List UInt8 := [42, 43, 181, 0, 1, 42, 43, 28, 183, 0, 7, 177]
abbrev dktX22_init_0 : List UInt8 := dkwX22_init_0 ++ []
theorem dksX22_init_0 : cX22_init.data.toList.drop 0 = dktX22_init_0 := by decide +kernel
theorem dX22_init_0 : decode cX22_init 0 = .ok (.aload_n 0, 1) := dk_42 (dk_at dksX22_init_0 0 rfl rfl)
theorem dX22_init_1 : decode cX22_init 1 = .ok (.aload_n 1, 1) := dk_43 (dk_at dksX22_init_0 1 rfl rfl)
theorem dX22_init_2 : decode cX22_init 2 = .ok (.putfield 1, 3) := dk_181 0 1 (dk_at dksX22_init_0 2 rfl rfl)
theorem dX22_init_5 : decode cX22_init 5 = .ok (.aload_n 0, 1) := dk_42 (dk_at dksX22_init_0 5 rfl rfl)
theorem dX22_init_6 : decode cX22_init 6 = .ok (.aload_n 1, 1) := dk_43 (dk_at dksX22_init_0 6 rfl rfl)
theorem dX22_init_7 : decode cX22_init 7 = .ok (.iload_n 2, 1) := dk_28 (dk_at dksX22_init_0 7 rfl rfl)
theorem dX22_init_8 : decode cX22_init 8 = .ok (.invokespecial 7, 3) := dk_183 0 7 (dk_at dksX22_init_0 8 rfl rfl)
theorem dX22_init_11 : decode cX22_init 11 = .ok (.return_, 1) := dk_177 (dk_at dksX22_init_0 11 rfl rfl)
abbrev cX22_keeps : ByteArray := prog_3_method_3_code
def yX22_keeps : MethodName := ⟨RX22, "keeps", "(I)I"⟩
def dkwX22_keeps_0 : List UInt8 := [42, 180, 0, 1, 16, 80, 182, 0, 13, 42, 27, 183, 0, 19, 61, 28, 42, 5, 182, 0, 23, 96, 172]
abbrev dktX22_keeps_0 : List UInt8 := dkwX22_keeps_0 ++ []
theorem dksX22_keeps_0 : cX22_keeps.data.toList.drop 0 = dktX22_keeps_0 := by decide +kernel
theorem dX22_keeps_0 : decode cX22_keeps 0 = .ok (.aload_n 0, 1) := dk_42 (dk_at dksX22_keeps_0 0 rfl rfl)
theorem dX22_keeps_1 : decode cX22_keeps 1 = .ok (.getfield 1, 3) := dk_180 0 1 (dk_at dksX22_keeps_0 1 rfl rfl)
theorem dX22_keeps_4 : decode cX22_keeps 4 = .ok (.bipush 80, 2) := dk_16 80 (dk_at dksX22_keeps_0 4 rfl rfl)
theorem dX22_keeps_6 : decode cX22_keeps 6 = .ok (.invokevirtual 13, 3) := dk_182 0 13 (dk_at dksX22_keeps_0 6 rfl rfl)
theorem dX22_keeps_9 : decode cX22_keeps 9 = .ok (.aload_n 0, 1) := dk_42 (dk_at dksX22_keeps_0 9 rfl rfl)
theorem dX22_keeps_10 : decode cX22_keeps 10 = .ok (.iload_n 1, 1) := dk_27 (dk_at dksX22_keeps_0 10 rfl rfl)
theorem dX22_keeps_11 : decode cX22_keeps 11 = .ok (.invokespecial 19, 3) := dk_183 0 19 (dk_at dksX22_keeps_0 11 rfl rfl)
theorem dX22_keeps_14 : decode cX22_keeps 14 = .ok (.istore_n 2, 1) := dk_61 (dk_at dksX22_keeps_0 14 rfl rfl)
theorem dX22_keeps_15 : decode cX22_keeps 15 = .ok (.iload_n 2, 1) := dk_28 (dk_at dksX22_keeps_0 15 rfl rfl)
theorem dX22_keeps_16 : decode cX22_keeps 16 = .ok (.aload_n 0, 1) := dk_42 (dk_at dksX22_keeps_0 16 rfl rfl)
theorem dX22_keeps_17 : decode cX22_keeps 17 = .ok (.iconst 2, 1) := dk_5 (dk_at dksX22_keeps_0 17 rfl rfl)
theorem dX22_keeps_18 : decode cX22_keeps 18 = .ok (.invokevirtual 23, 3) := dk_182 0 23 (dk_at dksX22_keeps_0 18 rfl rfl)
theorem dX22_keeps_21 : decode cX22_keeps 21 = .ok (.iadd, 1) := dk_96 (dk_at dksX22_keeps_0 21 rfl rfl)
theorem dX22_keeps_22 : decode cX22_keeps 22 = .ok (.ireturn, 1) := dk_172 (dk_at dksX22_keeps_0 22 rfl rfl)
abbrev cX22_tells : ByteArray := prog_3_method_4_code
def yX22_tells : MethodName := ⟨RX22, "tells", "(I)I"⟩
def dkwX22_tells_0 : List UInt8 := [42, 180, 0, 1, 16, 81, 182, 0, 13, 42, 27, 183, 0, 26, 4, 100, 172]
abbrev dktX22_tells_0 : List UInt8 := dkwX22_tells_0 ++ []
theorem dksX22_tells_0 : cX22_tells.data.toList.drop 0 = dktX22_tells_0 := by decide +kernel
theorem dX22_tells_0 : decode cX22_tells 0 = .ok (.aload_n 0, 1) := dk_42 (dk_at dksX22_tells_0 0 rfl rfl)
theorem dX22_tells_1 : decode cX22_tells 1 = .ok (.getfield 1, 3) := dk_180 0 1 (dk_at dksX22_tells_0 1 rfl rfl)
theorem dX22_tells_4 : decode cX22_tells 4 = .ok (.bipush 81, 2) := dk_16 81 (dk_at dksX22_tells_0 4 rfl rfl)
theorem dX22_tells_6 : decode cX22_tells 6 = .ok (.invokevirtual 13, 3) := dk_182 0 13 (dk_at dksX22_tells_0 6 rfl rfl)
theorem dX22_tells_9 : decode cX22_tells 9 = .ok (.aload_n 0, 1) := dk_42 (dk_at dksX22_tells_0 9 rfl rfl)
theorem dX22_tells_10 : decode cX22_tells 10 = .ok (.iload_n 1, 1) := dk_27 (dk_at dksX22_tells_0 10 rfl rfl)
theorem dX22_tells_11 : decode cX22_tells 11 = .ok (.invokespecial 26, 3) := dk_183 0 26 (dk_at dksX22_tells_0 11 rfl rfl)
theorem dX22_tells_14 : decode cX22_tells 14 = .ok (.iconst 1, 1) := dk_4 (dk_at dksX22_tells_0 14 rfl rfl)
theorem dX22_tells_15 : decode cX22_tells 15 = .ok (.isub, 1) := dk_100 (dk_at dksX22_tells_0 15 rfl rfl)
theorem dX22_tells_16 : decode cX22_tells 16 = .ok (.ireturn, 1) := dk_172 (dk_at dksX22_tells_0 16 rfl rfl)
abbrev cX22_kind : ByteArray := prog_3_method_2_code
def yX22_kind : MethodName := ⟨RX22, "kind", "()I"⟩
theorem dX22_kind_0 : decode cX22_kind 0 = .ok (.bipush 7, 2) := by decide +kernel
theorem dX22_kind_2 : decode cX22_kind 2 = .ok (.ireturn, 1) := by decide +kernel
theorem q118 : (Jvm.Cond.initialized "PointsForAll$Black") ∈ lw_all := lw_g (lw_at lw_m1 37 rfl) rfl
theorem q1063 : (Jvm.Cond.instantiable "PointsForAll$Black" (5 : Nat)) ∈ lw_all := lw_g (lw_at lw_m5 22 rfl) rfl
theorem q1065 : (Jvm.Cond.instanceMethod ({ cls := "PointsForAll$Black", name := "<init>", desc := "(LPointsForAll;I)V" } : Jvm.MethodName)) ∈ lw_all := lw_g (lw_at lw_m5 24 rfl) rfl
theorem q1066 : (Jvm.Cond.code ({ cls := "PointsForAll$Black", name := "<init>", desc := "(LPointsForAll;I)V" } : Jvm.MethodName) prog_3_method_1_code (3 : Nat) (Option.none : Option Jvm.ClassFile.FieldType)) ∈ lw_all := lw_g (lw_at lw_m5 25 rfl) rfl
theorem q1067 : (Jvm.Cond.methodLink "PointsForAll$Black" (7 : Nat) ({ cls := "PointsForAll$Changed", name := "<init>", desc := "(LPointsForAll;I)V" } : Jvm.MethodName)) ∈ lw_all := lw_g (lw_at lw_m5 26 rfl) rfl
theorem q1068 : (Jvm.Cond.fieldLink "PointsForAll$Black" (1 : Nat) "PointsForAll$Black" "this$0" "LPointsForAll;") ∈ lw_all := lw_g (lw_at lw_m5 27 rfl) rfl
theorem q1069 : (Jvm.Cond.laysFinal "PointsForAll$Black" "PointsForAll$Black" "this$0" "LPointsForAll;") ∈ lw_all := lw_g (lw_at lw_m5 28 rfl) rfl
theorem q1070 : (Jvm.Cond.soleField "PointsForAll$Black" "this$0") ∈ lw_all := lw_g (lw_at lw_m5 29 rfl) rfl
theorem q1071 : (Jvm.Cond.laysFinal "PointsForAll$Black" "PointsForAll$Changed" "this$0" "LPointsForAll;") ∈ lw_all := lw_g (lw_at lw_m5 30 rfl) rfl
theorem q1072 : (Jvm.Cond.laysFinal "PointsForAll$Black" "PointsForAll$Points" "this$0" "LPointsForAll;") ∈ lw_all := lw_g (lw_at lw_m5 31 rfl) rfl
theorem q1073 : (Jvm.Cond.laysFinal "PointsForAll$Black" "PointsForAll$Purse" "number" "I") ∈ lw_all := lw_g (lw_at lw_m5 32 rfl) rfl
theorem q1074 : (Jvm.Cond.laysFinal "PointsForAll$Black" "PointsForAll$Purse" "this$0" "LPointsForAll;") ∈ lw_all := lw_g (lw_at lw_m5 33 rfl) rfl
theorem q1075 : (Jvm.Cond.superclass "PointsForAll$Black" "PointsForAll$Changed") ∈ lw_all := lw_g (lw_at lw_m5 34 rfl) rfl
theorem q1109 : (Jvm.Cond.castable "PointsForAll$Black" "PointsForAll$Buys") ∈ lw_tbl := lw_at lw_m5 68 rfl
theorem q1110 : (Jvm.Cond.selects "PointsForAll$Black" ({ cls := "PointsForAll$Buys", name := "buys", desc := "(I)I" } : Jvm.MethodName) ({ cls := "PointsForAll$Purse", name := "buys", desc := "(I)I" } : Jvm.MethodName)) ∈ lw_all := lw_g (lw_at lw_m5 69 rfl) rfl
theorem q1111 : (Jvm.Cond.unhidden "PointsForAll$Black" "buys" "(I)I") ∈ lw_tbl := lw_at lw_m5 70 rfl
theorem q1165 : (Jvm.Cond.selects "PointsForAll$Black" ({ cls := "PointsForAll$Purse", name := "keeps", desc := "(I)I" } : Jvm.MethodName) ({ cls := "PointsForAll$Black", name := "keeps", desc := "(I)I" } : Jvm.MethodName)) ∈ lw_all := lw_g (lw_at lw_m5 124 rfl) rfl
theorem q1166 : (Jvm.Cond.instanceMethod ({ cls := "PointsForAll$Black", name := "keeps", desc := "(I)I" } : Jvm.MethodName)) ∈ lw_all := lw_g (lw_at lw_m5 125 rfl) rfl
theorem q1167 : (Jvm.Cond.code ({ cls := "PointsForAll$Black", name := "keeps", desc := "(I)I" } : Jvm.MethodName) prog_3_method_3_code (3 : Nat) (Option.some Jvm.ClassFile.FieldType.int)) ∈ lw_all := lw_g (lw_at lw_m5 126 rfl) rfl
theorem q1168 : (Jvm.Cond.methodLinkNest "PointsForAll$Black" (13 : Nat) ({ cls := "PointsForAll", name := "ran", desc := "(I)V" } : Jvm.MethodName) "PointsForAll") ∈ lw_tbl := lw_at lw_m5 127 rfl
theorem q1169 : (Jvm.Cond.methodLink "PointsForAll$Black" (19 : Nat) ({ cls := "PointsForAll$Changed", name := "keeps", desc := "(I)I" } : Jvm.MethodName)) ∈ lw_all := lw_g (lw_at lw_m5 128 rfl) rfl
theorem q1172 : (Jvm.Cond.methodLink "PointsForAll$Black" (23 : Nat) ({ cls := "PointsForAll$Black", name := "lends", desc := "(I)I" } : Jvm.MethodName)) ∈ lw_all := lw_g (lw_at lw_m5 131 rfl) rfl
theorem q1173 : (Jvm.Cond.sameMethod "PointsForAll$Black" "PointsForAll$Changed" "lends" "(I)I") ∈ lw_all := lw_g (lw_at lw_m5 132 rfl) rfl
theorem q1175 : (Jvm.Cond.selects "PointsForAll$Black" ({ cls := "PointsForAll$Black", name := "lends", desc := "(I)I" } : Jvm.MethodName) ({ cls := "PointsForAll$Changed", name := "lends", desc := "(I)I" } : Jvm.MethodName)) ∈ lw_all := lw_g (lw_at lw_m5 134 rfl) rfl
theorem q1186 : (Jvm.Cond.selects "PointsForAll$Black" ({ cls := "PointsForAll$Changed", name := "buys", desc := "(I)I" } : Jvm.MethodName) ({ cls := "PointsForAll$Purse", name := "buys", desc := "(I)I" } : Jvm.MethodName)) ∈ lw_all := lw_g (lw_at lw_m5 145 rfl) rfl
theorem q1200 : (Jvm.Cond.castable "PointsForAll$Black" "PointsForAll$Tells") ∈ lw_tbl := lw_at lw_m5 159 rfl
theorem q1201 : (Jvm.Cond.selects "PointsForAll$Black" ({ cls := "PointsForAll$Tells", name := "tells", desc := "(I)I" } : Jvm.MethodName) ({ cls := "PointsForAll$Black", name := "tells", desc := "(I)I" } : Jvm.MethodName)) ∈ lw_all := lw_g (lw_at lw_m5 160 rfl) rfl
theorem q1202 : (Jvm.Cond.unhidden "PointsForAll$Black" "tells" "(I)I") ∈ lw_tbl := lw_at lw_m5 161 rfl
theorem q1203 : (Jvm.Cond.instanceMethod ({ cls := "PointsForAll$Black", name := "tells", desc := "(I)I" } : Jvm.MethodName)) ∈ lw_all := lw_g (lw_at lw_m5 162 rfl) rfl
theorem q1204 : (Jvm.Cond.publicMethod ({ cls := "PointsForAll$Black", name := "tells", desc := "(I)I" } : Jvm.MethodName)) ∈ lw_tbl := lw_at lw_m5 163 rfl
theorem q1205 : (Jvm.Cond.code ({ cls := "PointsForAll$Black", name := "tells", desc := "(I)I" } : Jvm.MethodName) prog_3_method_4_code (2 : Nat) (Option.some Jvm.ClassFile.FieldType.int)) ∈ lw_all := lw_g (lw_at lw_m5 164 rfl) rfl
theorem q1206 : (Jvm.Cond.methodLink "PointsForAll$Black" (26 : Nat) ({ cls := "PointsForAll$Changed", name := "tells", desc := "(I)I" } : Jvm.MethodName)) ∈ lw_all := lw_g (lw_at lw_m5 165 rfl) rfl
theorem q1406 : (Jvm.Cond.selects "PointsForAll$Black" ({ cls := "PointsForAll$Purse", name := "isUnder", desc := "(I)Z" } : Jvm.MethodName) ({ cls := "PointsForAll$Changed", name := "isUnder", desc := "(I)Z" } : Jvm.MethodName)) ∈ lw_all := lw_g (lw_at lw_m6 125 rfl) rfl
theorem q1423 : (Jvm.Cond.selects "PointsForAll$Black" ({ cls := "PointsForAll$Purse", name := "kind", desc := "()I" } : Jvm.MethodName) ({ cls := "PointsForAll$Black", name := "kind", desc := "()I" } : Jvm.MethodName)) ∈ lw_all := lw_g (lw_at lw_m6 142 rfl) rfl
theorem q1424 : (Jvm.Cond.instanceMethod ({ cls := "PointsForAll$Black", name := "kind", desc := "()I" } : Jvm.MethodName)) ∈ lw_all := lw_g (lw_at lw_m6 143 rfl) rfl
theorem q1425 : (Jvm.Cond.code ({ cls := "PointsForAll$Black", name := "kind", desc := "()I" } : Jvm.MethodName) prog_3_method_2_code (1 : Nat) (Option.some Jvm.ClassFile.FieldType.int)) ∈ lw_all := lw_g (lw_at lw_m6 144 rfl) rfl
theorem q1993 : (Jvm.Cond.selects "PointsForAll$Black" ({ cls := "PointsForAll$Purse", name := "buys", desc := "(I)I" } : Jvm.MethodName) ({ cls := "PointsForAll$Purse", name := "buys", desc := "(I)I" } : Jvm.MethodName)) ∈ lw_all := lw_g (lw_at lw_m8 232 rfl) rfl
theorem q2002 : (Jvm.Cond.selects "PointsForAll$Black" ({ cls := "PointsForAll$Purse", name := "lends", desc := "(I)I" } : Jvm.MethodName) ({ cls := "PointsForAll$Changed", name := "lends", desc := "(I)I" } : Jvm.MethodName)) ∈ lw_all := lw_g (lw_at lw_m9 1 rfl) rfl
theorem q2017 : (Jvm.Cond.castable "PointsForAll$Black" "PointsForAll$Purse") ∈ lw_tbl := lw_at lw_m9 16 rfl
theorem q2029 : (Jvm.Cond.castable "PointsForAll$Black" "PointsForAll$Held") ∈ lw_tbl := lw_at lw_m9 28 rfl
theorem in_X22 : ∀ w ∈ wsX220, w ∈ lw_all := lw_in wsX220 [1073, 1074, 1072, 1071, 1069] (by decide +kernel) (by decide +kernel)

/-! PointsForAll$Row -/
set_option maxRecDepth 100000
def RX23 : String := "PointsForAll$Row"
abbrev cX23_init : ByteArray := prog_24_method_1_code
def yX23_init : MethodName := ⟨RX23, "<init>", "()V"⟩
theorem dX23_init_0 : decode cX23_init 0 = .ok (.aload_n 0, 1) := by decide +kernel
theorem dX23_init_1 : decode cX23_init 1 = .ok (.invokespecial 1, 3) := by decide +kernel
theorem dX23_init_4 : decode cX23_init 4 = .ok (.return_, 1) := by decide +kernel
theorem q120 : (Jvm.Cond.initialized "PointsForAll$Row") ∈ lw_all := lw_g (lw_at lw_m1 39 rfl) rfl
theorem q1264 : (Jvm.Cond.instanceMethod ({ cls := "PointsForAll$Row", name := "<init>", desc := "()V" } : Jvm.MethodName)) ∈ lw_all := lw_g (lw_at lw_m5 223 rfl) rfl
theorem q1265 : (Jvm.Cond.code ({ cls := "PointsForAll$Row", name := "<init>", desc := "()V" } : Jvm.MethodName) prog_24_method_1_code (1 : Nat) (Option.none : Option Jvm.ClassFile.FieldType)) ∈ lw_all := lw_g (lw_at lw_m5 224 rfl) rfl
theorem q1266 : (Jvm.Cond.methodLinkNest "PointsForAll$Row" (1 : Nat) ({ cls := "PointsForAll$Held", name := "<init>", desc := "()V" } : Jvm.MethodName) "PointsForAll") ∈ lw_tbl := lw_at lw_m5 225 rfl
theorem q1319 : (Jvm.Cond.declares ({ cls := "PointsForAll$Row", name := "put", desc := "(IJ)Z" } : Jvm.MethodName)) ∈ lw_tbl := lw_at lw_m6 38 rfl
theorem q1320 : (Jvm.Cond.sameMethod "PointsForAll$Row" "PointsForAll$Row" "put" "(IJ)Z") ∈ lw_all := lw_g (lw_at lw_m6 39 rfl) rfl
theorem q1342 : (Jvm.Cond.declares ({ cls := "PointsForAll$Row", name := "at", desc := "(I)J" } : Jvm.MethodName)) ∈ lw_tbl := lw_at lw_m6 61 rfl
theorem q1343 : (Jvm.Cond.sameMethod "PointsForAll$Row" "PointsForAll$Row" "at" "(I)J") ∈ lw_all := lw_g (lw_at lw_m6 62 rfl) rfl
theorem q1362 : (Jvm.Cond.declares ({ cls := "PointsForAll$Row", name := "copy", desc := "(ILPointsForAll$Row;II)V" } : Jvm.MethodName)) ∈ lw_tbl := lw_at lw_m6 81 rfl
theorem q1363 : (Jvm.Cond.sameMethod "PointsForAll$Row" "PointsForAll$Row" "copy" "(ILPointsForAll$Row;II)V") ∈ lw_all := lw_g (lw_at lw_m6 82 rfl) rfl

/-! PointsForAll$ByteRow -/
set_option maxRecDepth 100000
def RX24 : String := "PointsForAll$ByteRow"
def TX24 : u_T := fun k => match k with
  | _ => ("PointsForAll$ByteRow", "items", "[B", true)
def tyX24 : Nat → FieldType := fun k => match k with
  | _ => .array .byte
abbrev wsX240 : List Cond := u_ws RX24 TX24 1
theorem nmX24 : ∀ a, a < 1 → ∀ b, b < 1 → a ≠ b → (TX24 a).2.1 ≠ (TX24 b).2.1 := by decide +kernel
theorem tyX24_ok : ∀ k, k < 1 → parseFieldDescriptor (TX24 k).2.2.1 = some (tyX24 k) := by decide +kernel
abbrev cX24_init : ByteArray := prog_6_method_1_code
def yX24_init : MethodName := ⟨RX24, "<init>", "(I)V"⟩
def dkwX24_init_0 : List UInt8 := [42, 183, 0, 1, 42, 27, 188, 8, 181, 0, 7, 177]
abbrev dktX24_init_0 : List UInt8 := dkwX24_init_0 ++ []
theorem dksX24_init_0 : cX24_init.data.toList.drop 0 = dktX24_init_0 := by decide +kernel
theorem dX24_init_0 : decode cX24_init 0 = .ok (.aload_n 0, 1) := dk_42 (dk_at dksX24_init_0 0 rfl rfl)
theorem dX24_init_1 : decode cX24_init 1 = .ok (.invokespecial 1, 3) := dk_183 0 1 (dk_at dksX24_init_0 1 rfl rfl)
theorem dX24_init_4 : decode cX24_init 4 = .ok (.aload_n 0, 1) := dk_42 (dk_at dksX24_init_0 4 rfl rfl)
theorem dX24_init_5 : decode cX24_init 5 = .ok (.iload_n 1, 1) := dk_27 (dk_at dksX24_init_0 5 rfl rfl)
theorem dX24_init_6 : decode cX24_init 6 = .ok (.newarray .byte, 2) := dk_188_8 (dk_at dksX24_init_0 6 rfl rfl)
theorem dX24_init_8 : decode cX24_init 8 = .ok (.putfield 7, 3) := dk_181 0 7 (dk_at dksX24_init_0 8 rfl rfl)
theorem dX24_init_11 : decode cX24_init 11 = .ok (.return_, 1) := dk_177 (dk_at dksX24_init_0 11 rfl rfl)
abbrev cX24_put : ByteArray := prog_6_method_5_code
def yX24_put : MethodName := ⟨RX24, "put", "(IJ)Z"⟩
def dkwX24_put_0 : List UInt8 := [42, 180, 0, 7, 27, 32, 136, 145, 84, 4, 172]
abbrev dktX24_put_0 : List UInt8 := dkwX24_put_0 ++ []
theorem dksX24_put_0 : cX24_put.data.toList.drop 0 = dktX24_put_0 := by decide +kernel
theorem dX24_put_0 : decode cX24_put 0 = .ok (.aload_n 0, 1) := dk_42 (dk_at dksX24_put_0 0 rfl rfl)
theorem dX24_put_1 : decode cX24_put 1 = .ok (.getfield 7, 3) := dk_180 0 7 (dk_at dksX24_put_0 1 rfl rfl)
theorem dX24_put_4 : decode cX24_put 4 = .ok (.iload_n 1, 1) := dk_27 (dk_at dksX24_put_0 4 rfl rfl)
theorem dX24_put_5 : decode cX24_put 5 = .ok (.lload_n 2, 1) := dk_32 (dk_at dksX24_put_0 5 rfl rfl)
theorem dX24_put_6 : decode cX24_put 6 = .ok (.l2i, 1) := dk_136 (dk_at dksX24_put_0 6 rfl rfl)
theorem dX24_put_7 : decode cX24_put 7 = .ok (.i2b, 1) := dk_145 (dk_at dksX24_put_0 7 rfl rfl)
theorem dX24_put_8 : decode cX24_put 8 = .ok (.bastore, 1) := dk_84 (dk_at dksX24_put_0 8 rfl rfl)
theorem dX24_put_9 : decode cX24_put 9 = .ok (.iconst 1, 1) := dk_4 (dk_at dksX24_put_0 9 rfl rfl)
theorem dX24_put_10 : decode cX24_put 10 = .ok (.ireturn, 1) := dk_172 (dk_at dksX24_put_0 10 rfl rfl)
abbrev cX24_at : ByteArray := prog_6_method_4_code
def yX24_at : MethodName := ⟨RX24, "at", "(I)J"⟩
def dkwX24_at_0 : List UInt8 := [42, 180, 0, 7, 27, 51, 133, 173]
abbrev dktX24_at_0 : List UInt8 := dkwX24_at_0 ++ []
theorem dksX24_at_0 : cX24_at.data.toList.drop 0 = dktX24_at_0 := by decide +kernel
theorem dX24_at_0 : decode cX24_at 0 = .ok (.aload_n 0, 1) := dk_42 (dk_at dksX24_at_0 0 rfl rfl)
theorem dX24_at_1 : decode cX24_at 1 = .ok (.getfield 7, 3) := dk_180 0 7 (dk_at dksX24_at_0 1 rfl rfl)
theorem dX24_at_4 : decode cX24_at 4 = .ok (.iload_n 1, 1) := dk_27 (dk_at dksX24_at_0 4 rfl rfl)
theorem dX24_at_5 : decode cX24_at 5 = .ok (.baload, 1) := dk_51 (dk_at dksX24_at_0 5 rfl rfl)
theorem dX24_at_6 : decode cX24_at 6 = .ok (.i2l, 1) := dk_133 (dk_at dksX24_at_0 6 rfl rfl)
theorem dX24_at_7 : decode cX24_at 7 = .ok (.lreturn, 1) := dk_173 (dk_at dksX24_at_0 7 rfl rfl)
abbrev cX24_copy : ByteArray := prog_6_method_6_code
def yX24_copy : MethodName := ⟨RX24, "copy", "(ILPointsForAll$Row;II)V"⟩
def dkwX24_copy_0 : List UInt8 := [42, 180, 0, 7, 27, 44, 192, 0, 8, 180, 0, 7, 29, 21, 4, 184, 0, 13, 177]
abbrev dktX24_copy_0 : List UInt8 := dkwX24_copy_0 ++ []
theorem dksX24_copy_0 : cX24_copy.data.toList.drop 0 = dktX24_copy_0 := by decide +kernel
theorem dX24_copy_0 : decode cX24_copy 0 = .ok (.aload_n 0, 1) := dk_42 (dk_at dksX24_copy_0 0 rfl rfl)
theorem dX24_copy_1 : decode cX24_copy 1 = .ok (.getfield 7, 3) := dk_180 0 7 (dk_at dksX24_copy_0 1 rfl rfl)
theorem dX24_copy_4 : decode cX24_copy 4 = .ok (.iload_n 1, 1) := dk_27 (dk_at dksX24_copy_0 4 rfl rfl)
theorem dX24_copy_5 : decode cX24_copy 5 = .ok (.aload_n 2, 1) := dk_44 (dk_at dksX24_copy_0 5 rfl rfl)
theorem dX24_copy_6 : decode cX24_copy 6 = .ok (.checkcast 8, 3) := dk_192 0 8 (dk_at dksX24_copy_0 6 rfl rfl)
theorem dX24_copy_9 : decode cX24_copy 9 = .ok (.getfield 7, 3) := dk_180 0 7 (dk_at dksX24_copy_0 9 rfl rfl)
theorem dX24_copy_12 : decode cX24_copy 12 = .ok (.iload_n 3, 1) := dk_29 (dk_at dksX24_copy_0 12 rfl rfl)
theorem dX24_copy_13 : decode cX24_copy 13 = .ok (.iload 4, 2) := dk_21 4 (dk_at dksX24_copy_0 13 rfl rfl)
theorem dX24_copy_15 : decode cX24_copy 15 = .ok (.invokestatic 13, 3) := dk_184 0 13 (dk_at dksX24_copy_0 15 rfl rfl)
theorem dX24_copy_18 : decode cX24_copy 18 = .ok (.return_, 1) := dk_177 (dk_at dksX24_copy_0 18 rfl rfl)
theorem q121 : (Jvm.Cond.initialized "PointsForAll$ByteRow") ∈ lw_all := lw_g (lw_at lw_m1 40 rfl) rfl
theorem q1259 : (Jvm.Cond.instantiable "PointsForAll$ByteRow" (1 : Nat)) ∈ lw_all := lw_g (lw_at lw_m5 218 rfl) rfl
theorem q1261 : (Jvm.Cond.instanceMethod ({ cls := "PointsForAll$ByteRow", name := "<init>", desc := "(I)V" } : Jvm.MethodName)) ∈ lw_all := lw_g (lw_at lw_m5 220 rfl) rfl
theorem q1262 : (Jvm.Cond.code ({ cls := "PointsForAll$ByteRow", name := "<init>", desc := "(I)V" } : Jvm.MethodName) prog_6_method_1_code (2 : Nat) (Option.none : Option Jvm.ClassFile.FieldType)) ∈ lw_all := lw_g (lw_at lw_m5 221 rfl) rfl
theorem q1263 : (Jvm.Cond.methodLinkNest "PointsForAll$ByteRow" (1 : Nat) ({ cls := "PointsForAll$Row", name := "<init>", desc := "()V" } : Jvm.MethodName) "PointsForAll") ∈ lw_tbl := lw_at lw_m5 222 rfl
theorem q1267 : (Jvm.Cond.fieldLink "PointsForAll$ByteRow" (7 : Nat) "PointsForAll$ByteRow" "items" "[B") ∈ lw_all := lw_g (lw_at lw_m5 226 rfl) rfl
theorem q1268 : (Jvm.Cond.laysFinal "PointsForAll$ByteRow" "PointsForAll$ByteRow" "items" "[B") ∈ lw_all := lw_g (lw_at lw_m5 227 rfl) rfl
theorem q1269 : (Jvm.Cond.soleField "PointsForAll$ByteRow" "items") ∈ lw_all := lw_g (lw_at lw_m5 228 rfl) rfl
theorem q1270 : (Jvm.Cond.superclass "PointsForAll$ByteRow" "PointsForAll$Row") ∈ lw_all := lw_g (lw_at lw_m5 229 rfl) rfl
theorem q1324 : (Jvm.Cond.selects "PointsForAll$ByteRow" ({ cls := "PointsForAll$Row", name := "put", desc := "(IJ)Z" } : Jvm.MethodName) ({ cls := "PointsForAll$ByteRow", name := "put", desc := "(IJ)Z" } : Jvm.MethodName)) ∈ lw_all := lw_g (lw_at lw_m6 43 rfl) rfl
theorem q1325 : (Jvm.Cond.instanceMethod ({ cls := "PointsForAll$ByteRow", name := "put", desc := "(IJ)Z" } : Jvm.MethodName)) ∈ lw_all := lw_g (lw_at lw_m6 44 rfl) rfl
theorem q1326 : (Jvm.Cond.code ({ cls := "PointsForAll$ByteRow", name := "put", desc := "(IJ)Z" } : Jvm.MethodName) prog_6_method_5_code (4 : Nat) (Option.some Jvm.ClassFile.FieldType.boolean)) ∈ lw_all := lw_g (lw_at lw_m6 45 rfl) rfl
theorem q1347 : (Jvm.Cond.selects "PointsForAll$ByteRow" ({ cls := "PointsForAll$Row", name := "at", desc := "(I)J" } : Jvm.MethodName) ({ cls := "PointsForAll$ByteRow", name := "at", desc := "(I)J" } : Jvm.MethodName)) ∈ lw_all := lw_g (lw_at lw_m6 66 rfl) rfl
theorem q1348 : (Jvm.Cond.instanceMethod ({ cls := "PointsForAll$ByteRow", name := "at", desc := "(I)J" } : Jvm.MethodName)) ∈ lw_all := lw_g (lw_at lw_m6 67 rfl) rfl
theorem q1349 : (Jvm.Cond.code ({ cls := "PointsForAll$ByteRow", name := "at", desc := "(I)J" } : Jvm.MethodName) prog_6_method_4_code (2 : Nat) (Option.some Jvm.ClassFile.FieldType.long)) ∈ lw_all := lw_g (lw_at lw_m6 68 rfl) rfl
theorem q1371 : (Jvm.Cond.selects "PointsForAll$ByteRow" ({ cls := "PointsForAll$Row", name := "copy", desc := "(ILPointsForAll$Row;II)V" } : Jvm.MethodName) ({ cls := "PointsForAll$ByteRow", name := "copy", desc := "(ILPointsForAll$Row;II)V" } : Jvm.MethodName)) ∈ lw_all := lw_g (lw_at lw_m6 90 rfl) rfl
theorem q1372 : (Jvm.Cond.instanceMethod ({ cls := "PointsForAll$ByteRow", name := "copy", desc := "(ILPointsForAll$Row;II)V" } : Jvm.MethodName)) ∈ lw_all := lw_g (lw_at lw_m6 91 rfl) rfl
theorem q1373 : (Jvm.Cond.code ({ cls := "PointsForAll$ByteRow", name := "copy", desc := "(ILPointsForAll$Row;II)V" } : Jvm.MethodName) prog_6_method_6_code (5 : Nat) (Option.none : Option Jvm.ClassFile.FieldType)) ∈ lw_all := lw_g (lw_at lw_m6 92 rfl) rfl
theorem q1374 : (Jvm.Cond.classLink "PointsForAll$ByteRow" (8 : Nat) "PointsForAll$ByteRow") ∈ lw_all := lw_g (lw_at lw_m6 93 rfl) rfl
theorem q1375 : (Jvm.Cond.methodLink "PointsForAll$ByteRow" (13 : Nat) ({ cls := "java/lang/System", name := "arraycopy", desc := "(Ljava/lang/Object;ILjava/lang/Object;II)V" } : Jvm.MethodName)) ∈ lw_all := lw_g (lw_at lw_m6 94 rfl) rfl
theorem q2012 : (Jvm.Cond.castable "PointsForAll$ByteRow" "PointsForAll$Row") ∈ lw_tbl := lw_at lw_m9 11 rfl
theorem q2031 : (Jvm.Cond.castable "PointsForAll$ByteRow" "PointsForAll$Held") ∈ lw_tbl := lw_at lw_m9 30 rfl
theorem in_X24 : ∀ w ∈ wsX240, w ∈ lw_all := lw_in wsX240 [1268] (by decide +kernel) (by decide +kernel)

/-! PointsForAll$ShortRow -/
set_option maxRecDepth 100000
def RX25 : String := "PointsForAll$ShortRow"
def TX25 : u_T := fun k => match k with
  | _ => ("PointsForAll$ShortRow", "items", "[S", true)
def tyX25 : Nat → FieldType := fun k => match k with
  | _ => .array .short
abbrev wsX250 : List Cond := u_ws RX25 TX25 1
theorem nmX25 : ∀ a, a < 1 → ∀ b, b < 1 → a ≠ b → (TX25 a).2.1 ≠ (TX25 b).2.1 := by decide +kernel
theorem tyX25_ok : ∀ k, k < 1 → parseFieldDescriptor (TX25 k).2.2.1 = some (tyX25 k) := by decide +kernel
abbrev cX25_at : ByteArray := prog_25_method_4_code
def yX25_at : MethodName := ⟨RX25, "at", "(I)J"⟩
def dkwX25_at_0 : List UInt8 := [42, 180, 0, 7, 27, 53, 133, 173]
abbrev dktX25_at_0 : List UInt8 := dkwX25_at_0 ++ []
theorem dksX25_at_0 : cX25_at.data.toList.drop 0 = dktX25_at_0 := by decide +kernel
theorem dX25_at_0 : decode cX25_at 0 = .ok (.aload_n 0, 1) := dk_42 (dk_at dksX25_at_0 0 rfl rfl)
theorem dX25_at_1 : decode cX25_at 1 = .ok (.getfield 7, 3) := dk_180 0 7 (dk_at dksX25_at_0 1 rfl rfl)
theorem dX25_at_4 : decode cX25_at 4 = .ok (.iload_n 1, 1) := dk_27 (dk_at dksX25_at_0 4 rfl rfl)
theorem dX25_at_5 : decode cX25_at 5 = .ok (.saload, 1) := dk_53 (dk_at dksX25_at_0 5 rfl rfl)
theorem dX25_at_6 : decode cX25_at 6 = .ok (.i2l, 1) := dk_133 (dk_at dksX25_at_0 6 rfl rfl)
theorem dX25_at_7 : decode cX25_at 7 = .ok (.lreturn, 1) := dk_173 (dk_at dksX25_at_0 7 rfl rfl)
abbrev cX25_init : ByteArray := prog_25_method_1_code
def yX25_init : MethodName := ⟨RX25, "<init>", "(I)V"⟩
def dkwX25_init_0 : List UInt8 := [42, 183, 0, 1, 42, 27, 188, 9, 181, 0, 7, 177]
abbrev dktX25_init_0 : List UInt8 := dkwX25_init_0 ++ []
theorem dksX25_init_0 : cX25_init.data.toList.drop 0 = dktX25_init_0 := by decide +kernel
theorem dX25_init_0 : decode cX25_init 0 = .ok (.aload_n 0, 1) := dk_42 (dk_at dksX25_init_0 0 rfl rfl)
theorem dX25_init_1 : decode cX25_init 1 = .ok (.invokespecial 1, 3) := dk_183 0 1 (dk_at dksX25_init_0 1 rfl rfl)
theorem dX25_init_4 : decode cX25_init 4 = .ok (.aload_n 0, 1) := dk_42 (dk_at dksX25_init_0 4 rfl rfl)
theorem dX25_init_5 : decode cX25_init 5 = .ok (.iload_n 1, 1) := dk_27 (dk_at dksX25_init_0 5 rfl rfl)
theorem dX25_init_6 : decode cX25_init 6 = .ok (.newarray .short, 2) := dk_188_9 (dk_at dksX25_init_0 6 rfl rfl)
theorem dX25_init_8 : decode cX25_init 8 = .ok (.putfield 7, 3) := dk_181 0 7 (dk_at dksX25_init_0 8 rfl rfl)
theorem dX25_init_11 : decode cX25_init 11 = .ok (.return_, 1) := dk_177 (dk_at dksX25_init_0 11 rfl rfl)
abbrev cX25_put : ByteArray := prog_25_method_5_code
def yX25_put : MethodName := ⟨RX25, "put", "(IJ)Z"⟩
def dkwX25_put_0 : List UInt8 := [42, 180, 0, 7, 27, 32, 136, 147, 86, 4, 172]
abbrev dktX25_put_0 : List UInt8 := dkwX25_put_0 ++ []
theorem dksX25_put_0 : cX25_put.data.toList.drop 0 = dktX25_put_0 := by decide +kernel
theorem dX25_put_0 : decode cX25_put 0 = .ok (.aload_n 0, 1) := dk_42 (dk_at dksX25_put_0 0 rfl rfl)
theorem dX25_put_1 : decode cX25_put 1 = .ok (.getfield 7, 3) := dk_180 0 7 (dk_at dksX25_put_0 1 rfl rfl)
theorem dX25_put_4 : decode cX25_put 4 = .ok (.iload_n 1, 1) := dk_27 (dk_at dksX25_put_0 4 rfl rfl)
theorem dX25_put_5 : decode cX25_put 5 = .ok (.lload_n 2, 1) := dk_32 (dk_at dksX25_put_0 5 rfl rfl)
theorem dX25_put_6 : decode cX25_put 6 = .ok (.l2i, 1) := dk_136 (dk_at dksX25_put_0 6 rfl rfl)
theorem dX25_put_7 : decode cX25_put 7 = .ok (.i2s, 1) := dk_147 (dk_at dksX25_put_0 7 rfl rfl)
theorem dX25_put_8 : decode cX25_put 8 = .ok (.sastore, 1) := dk_86 (dk_at dksX25_put_0 8 rfl rfl)
theorem dX25_put_9 : decode cX25_put 9 = .ok (.iconst 1, 1) := dk_4 (dk_at dksX25_put_0 9 rfl rfl)
theorem dX25_put_10 : decode cX25_put 10 = .ok (.ireturn, 1) := dk_172 (dk_at dksX25_put_0 10 rfl rfl)
abbrev cX25_copy : ByteArray := prog_25_method_6_code
def yX25_copy : MethodName := ⟨RX25, "copy", "(ILPointsForAll$Row;II)V"⟩
def dkwX25_copy_0 : List UInt8 := [42, 180, 0, 7, 27, 44, 192, 0, 8, 180, 0, 7, 29, 21, 4, 184, 0, 13, 177]
abbrev dktX25_copy_0 : List UInt8 := dkwX25_copy_0 ++ []
theorem dksX25_copy_0 : cX25_copy.data.toList.drop 0 = dktX25_copy_0 := by decide +kernel
theorem dX25_copy_0 : decode cX25_copy 0 = .ok (.aload_n 0, 1) := dk_42 (dk_at dksX25_copy_0 0 rfl rfl)
theorem dX25_copy_1 : decode cX25_copy 1 = .ok (.getfield 7, 3) := dk_180 0 7 (dk_at dksX25_copy_0 1 rfl rfl)
theorem dX25_copy_4 : decode cX25_copy 4 = .ok (.iload_n 1, 1) := dk_27 (dk_at dksX25_copy_0 4 rfl rfl)
theorem dX25_copy_5 : decode cX25_copy 5 = .ok (.aload_n 2, 1) := dk_44 (dk_at dksX25_copy_0 5 rfl rfl)
theorem dX25_copy_6 : decode cX25_copy 6 = .ok (.checkcast 8, 3) := dk_192 0 8 (dk_at dksX25_copy_0 6 rfl rfl)
theorem dX25_copy_9 : decode cX25_copy 9 = .ok (.getfield 7, 3) := dk_180 0 7 (dk_at dksX25_copy_0 9 rfl rfl)
theorem dX25_copy_12 : decode cX25_copy 12 = .ok (.iload_n 3, 1) := dk_29 (dk_at dksX25_copy_0 12 rfl rfl)
theorem dX25_copy_13 : decode cX25_copy 13 = .ok (.iload 4, 2) := dk_21 4 (dk_at dksX25_copy_0 13 rfl rfl)
theorem dX25_copy_15 : decode cX25_copy 15 = .ok (.invokestatic 13, 3) := dk_184 0 13 (dk_at dksX25_copy_0 15 rfl rfl)
theorem dX25_copy_18 : decode cX25_copy 18 = .ok (.return_, 1) := dk_177 (dk_at dksX25_copy_0 18 rfl rfl)
theorem q122 : (Jvm.Cond.initialized "PointsForAll$ShortRow") ∈ lw_all := lw_g (lw_at lw_m1 41 rfl) rfl
theorem q423 : (Jvm.Cond.instanceMethod ({ cls := "PointsForAll$ShortRow", name := "at", desc := "(I)J" } : Jvm.MethodName)) ∈ lw_all := lw_g (lw_at lw_m2 102 rfl) rfl
theorem q424 : (Jvm.Cond.selects "PointsForAll$ShortRow" ({ cls := "PointsForAll$ShortRow", name := "at", desc := "(I)J" } : Jvm.MethodName) ({ cls := "PointsForAll$ShortRow", name := "at", desc := "(I)J" } : Jvm.MethodName)) ∈ lw_all := lw_g (lw_at lw_m2 103 rfl) rfl
theorem q425 : (Jvm.Cond.code ({ cls := "PointsForAll$ShortRow", name := "at", desc := "(I)J" } : Jvm.MethodName) prog_25_method_4_code (2 : Nat) (Option.some Jvm.ClassFile.FieldType.long)) ∈ lw_all := lw_g (lw_at lw_m2 104 rfl) rfl
theorem q1271 : (Jvm.Cond.instantiable "PointsForAll$ShortRow" (1 : Nat)) ∈ lw_all := lw_g (lw_at lw_m5 230 rfl) rfl
theorem q1273 : (Jvm.Cond.instanceMethod ({ cls := "PointsForAll$ShortRow", name := "<init>", desc := "(I)V" } : Jvm.MethodName)) ∈ lw_all := lw_g (lw_at lw_m5 232 rfl) rfl
theorem q1274 : (Jvm.Cond.code ({ cls := "PointsForAll$ShortRow", name := "<init>", desc := "(I)V" } : Jvm.MethodName) prog_25_method_1_code (2 : Nat) (Option.none : Option Jvm.ClassFile.FieldType)) ∈ lw_all := lw_g (lw_at lw_m5 233 rfl) rfl
theorem q1275 : (Jvm.Cond.methodLinkNest "PointsForAll$ShortRow" (1 : Nat) ({ cls := "PointsForAll$Row", name := "<init>", desc := "()V" } : Jvm.MethodName) "PointsForAll") ∈ lw_tbl := lw_at lw_m5 234 rfl
theorem q1276 : (Jvm.Cond.fieldLink "PointsForAll$ShortRow" (7 : Nat) "PointsForAll$ShortRow" "items" "[S") ∈ lw_all := lw_g (lw_at lw_m5 235 rfl) rfl
theorem q1277 : (Jvm.Cond.laysFinal "PointsForAll$ShortRow" "PointsForAll$ShortRow" "items" "[S") ∈ lw_all := lw_g (lw_at lw_m5 236 rfl) rfl
theorem q1278 : (Jvm.Cond.soleField "PointsForAll$ShortRow" "items") ∈ lw_all := lw_g (lw_at lw_m5 237 rfl) rfl
theorem q1279 : (Jvm.Cond.superclass "PointsForAll$ShortRow" "PointsForAll$Row") ∈ lw_all := lw_g (lw_at lw_m5 238 rfl) rfl
theorem q1333 : (Jvm.Cond.selects "PointsForAll$ShortRow" ({ cls := "PointsForAll$Row", name := "put", desc := "(IJ)Z" } : Jvm.MethodName) ({ cls := "PointsForAll$ShortRow", name := "put", desc := "(IJ)Z" } : Jvm.MethodName)) ∈ lw_all := lw_g (lw_at lw_m6 52 rfl) rfl
theorem q1334 : (Jvm.Cond.instanceMethod ({ cls := "PointsForAll$ShortRow", name := "put", desc := "(IJ)Z" } : Jvm.MethodName)) ∈ lw_all := lw_g (lw_at lw_m6 53 rfl) rfl
theorem q1335 : (Jvm.Cond.code ({ cls := "PointsForAll$ShortRow", name := "put", desc := "(IJ)Z" } : Jvm.MethodName) prog_25_method_5_code (4 : Nat) (Option.some Jvm.ClassFile.FieldType.boolean)) ∈ lw_all := lw_g (lw_at lw_m6 54 rfl) rfl
theorem q1356 : (Jvm.Cond.selects "PointsForAll$ShortRow" ({ cls := "PointsForAll$Row", name := "at", desc := "(I)J" } : Jvm.MethodName) ({ cls := "PointsForAll$ShortRow", name := "at", desc := "(I)J" } : Jvm.MethodName)) ∈ lw_all := lw_g (lw_at lw_m6 75 rfl) rfl
theorem q1386 : (Jvm.Cond.selects "PointsForAll$ShortRow" ({ cls := "PointsForAll$Row", name := "copy", desc := "(ILPointsForAll$Row;II)V" } : Jvm.MethodName) ({ cls := "PointsForAll$ShortRow", name := "copy", desc := "(ILPointsForAll$Row;II)V" } : Jvm.MethodName)) ∈ lw_all := lw_g (lw_at lw_m6 105 rfl) rfl
theorem q1387 : (Jvm.Cond.instanceMethod ({ cls := "PointsForAll$ShortRow", name := "copy", desc := "(ILPointsForAll$Row;II)V" } : Jvm.MethodName)) ∈ lw_all := lw_g (lw_at lw_m6 106 rfl) rfl
theorem q1388 : (Jvm.Cond.code ({ cls := "PointsForAll$ShortRow", name := "copy", desc := "(ILPointsForAll$Row;II)V" } : Jvm.MethodName) prog_25_method_6_code (5 : Nat) (Option.none : Option Jvm.ClassFile.FieldType)) ∈ lw_all := lw_g (lw_at lw_m6 107 rfl) rfl
theorem q1389 : (Jvm.Cond.classLink "PointsForAll$ShortRow" (8 : Nat) "PointsForAll$ShortRow") ∈ lw_all := lw_g (lw_at lw_m6 108 rfl) rfl
theorem q1390 : (Jvm.Cond.methodLink "PointsForAll$ShortRow" (13 : Nat) ({ cls := "java/lang/System", name := "arraycopy", desc := "(Ljava/lang/Object;ILjava/lang/Object;II)V" } : Jvm.MethodName)) ∈ lw_all := lw_g (lw_at lw_m6 109 rfl) rfl
theorem q2015 : (Jvm.Cond.castable "PointsForAll$ShortRow" "PointsForAll$Row") ∈ lw_tbl := lw_at lw_m9 14 rfl
theorem q2032 : (Jvm.Cond.castable "PointsForAll$ShortRow" "PointsForAll$Held") ∈ lw_tbl := lw_at lw_m9 31 rfl
theorem in_X25 : ∀ w ∈ wsX250, w ∈ lw_all := lw_in wsX250 [1277] (by decide +kernel) (by decide +kernel)

/-! PointsForAll$IntRow -/
set_option maxRecDepth 100000
def RX26 : String := "PointsForAll$IntRow"
def TX26 : u_T := fun k => match k with
  | _ => ("PointsForAll$IntRow", "items", "[I", true)
def tyX26 : Nat → FieldType := fun k => match k with
  | _ => .array .int
abbrev wsX260 : List Cond := u_ws RX26 TX26 1
theorem nmX26 : ∀ a, a < 1 → ∀ b, b < 1 → a ≠ b → (TX26 a).2.1 ≠ (TX26 b).2.1 := by decide +kernel
theorem tyX26_ok : ∀ k, k < 1 → parseFieldDescriptor (TX26 k).2.2.1 = some (tyX26 k) := by decide +kernel
abbrev cX26_init : ByteArray := prog_13_method_1_code
def yX26_init : MethodName := ⟨RX26, "<init>", "(I)V"⟩
def dkwX26_init_0 : List UInt8 := [42, 183, 0, 1, 42, 27, 188, 10, 181, 0, 7, 177]
abbrev dktX26_init_0 : List UInt8 := dkwX26_init_0 ++ []
theorem dksX26_init_0 : cX26_init.data.toList.drop 0 = dktX26_init_0 := by decide +kernel
theorem dX26_init_0 : decode cX26_init 0 = .ok (.aload_n 0, 1) := dk_42 (dk_at dksX26_init_0 0 rfl rfl)
theorem dX26_init_1 : decode cX26_init 1 = .ok (.invokespecial 1, 3) := dk_183 0 1 (dk_at dksX26_init_0 1 rfl rfl)
theorem dX26_init_4 : decode cX26_init 4 = .ok (.aload_n 0, 1) := dk_42 (dk_at dksX26_init_0 4 rfl rfl)
theorem dX26_init_5 : decode cX26_init 5 = .ok (.iload_n 1, 1) := dk_27 (dk_at dksX26_init_0 5 rfl rfl)
theorem dX26_init_6 : decode cX26_init 6 = .ok (.newarray .int, 2) := dk_188_10 (dk_at dksX26_init_0 6 rfl rfl)
theorem dX26_init_8 : decode cX26_init 8 = .ok (.putfield 7, 3) := dk_181 0 7 (dk_at dksX26_init_0 8 rfl rfl)
theorem dX26_init_11 : decode cX26_init 11 = .ok (.return_, 1) := dk_177 (dk_at dksX26_init_0 11 rfl rfl)
abbrev cX26_put : ByteArray := prog_13_method_5_code
def yX26_put : MethodName := ⟨RX26, "put", "(IJ)Z"⟩
def dkwX26_put_0 : List UInt8 := [42, 180, 0, 7, 27, 32, 136, 79, 4, 172]
abbrev dktX26_put_0 : List UInt8 := dkwX26_put_0 ++ []
theorem dksX26_put_0 : cX26_put.data.toList.drop 0 = dktX26_put_0 := by decide +kernel
theorem dX26_put_0 : decode cX26_put 0 = .ok (.aload_n 0, 1) := dk_42 (dk_at dksX26_put_0 0 rfl rfl)
theorem dX26_put_1 : decode cX26_put 1 = .ok (.getfield 7, 3) := dk_180 0 7 (dk_at dksX26_put_0 1 rfl rfl)
theorem dX26_put_4 : decode cX26_put 4 = .ok (.iload_n 1, 1) := dk_27 (dk_at dksX26_put_0 4 rfl rfl)
theorem dX26_put_5 : decode cX26_put 5 = .ok (.lload_n 2, 1) := dk_32 (dk_at dksX26_put_0 5 rfl rfl)
theorem dX26_put_6 : decode cX26_put 6 = .ok (.l2i, 1) := dk_136 (dk_at dksX26_put_0 6 rfl rfl)
theorem dX26_put_7 : decode cX26_put 7 = .ok (.iastore, 1) := dk_79 (dk_at dksX26_put_0 7 rfl rfl)
theorem dX26_put_8 : decode cX26_put 8 = .ok (.iconst 1, 1) := dk_4 (dk_at dksX26_put_0 8 rfl rfl)
theorem dX26_put_9 : decode cX26_put 9 = .ok (.ireturn, 1) := dk_172 (dk_at dksX26_put_0 9 rfl rfl)
abbrev cX26_at : ByteArray := prog_13_method_4_code
def yX26_at : MethodName := ⟨RX26, "at", "(I)J"⟩
def dkwX26_at_0 : List UInt8 := [42, 180, 0, 7, 27, 46, 133, 173]
abbrev dktX26_at_0 : List UInt8 := dkwX26_at_0 ++ []
theorem dksX26_at_0 : cX26_at.data.toList.drop 0 = dktX26_at_0 := by decide +kernel
theorem dX26_at_0 : decode cX26_at 0 = .ok (.aload_n 0, 1) := dk_42 (dk_at dksX26_at_0 0 rfl rfl)
theorem dX26_at_1 : decode cX26_at 1 = .ok (.getfield 7, 3) := dk_180 0 7 (dk_at dksX26_at_0 1 rfl rfl)
theorem dX26_at_4 : decode cX26_at 4 = .ok (.iload_n 1, 1) := dk_27 (dk_at dksX26_at_0 4 rfl rfl)
theorem dX26_at_5 : decode cX26_at 5 = .ok (.iaload, 1) := dk_46 (dk_at dksX26_at_0 5 rfl rfl)
theorem dX26_at_6 : decode cX26_at 6 = .ok (.i2l, 1) := dk_133 (dk_at dksX26_at_0 6 rfl rfl)
theorem dX26_at_7 : decode cX26_at 7 = .ok (.lreturn, 1) := dk_173 (dk_at dksX26_at_0 7 rfl rfl)
abbrev cX26_copy : ByteArray := prog_13_method_6_code
def yX26_copy : MethodName := ⟨RX26, "copy", "(ILPointsForAll$Row;II)V"⟩
def dkwX26_copy_0 : List UInt8 := [42, 180, 0, 7, 27, 44, 192, 0, 8, 180, 0, 7, 29, 21, 4, 184, 0, 13, 177]
abbrev dktX26_copy_0 : List UInt8 := dkwX26_copy_0 ++ []
theorem dksX26_copy_0 : cX26_copy.data.toList.drop 0 = dktX26_copy_0 := by decide +kernel
theorem dX26_copy_0 : decode cX26_copy 0 = .ok (.aload_n 0, 1) := dk_42 (dk_at dksX26_copy_0 0 rfl rfl)
theorem dX26_copy_1 : decode cX26_copy 1 = .ok (.getfield 7, 3) := dk_180 0 7 (dk_at dksX26_copy_0 1 rfl rfl)
theorem dX26_copy_4 : decode cX26_copy 4 = .ok (.iload_n 1, 1) := dk_27 (dk_at dksX26_copy_0 4 rfl rfl)
theorem dX26_copy_5 : decode cX26_copy 5 = .ok (.aload_n 2, 1) := dk_44 (dk_at dksX26_copy_0 5 rfl rfl)
theorem dX26_copy_6 : decode cX26_copy 6 = .ok (.checkcast 8, 3) := dk_192 0 8 (dk_at dksX26_copy_0 6 rfl rfl)
theorem dX26_copy_9 : decode cX26_copy 9 = .ok (.getfield 7, 3) := dk_180 0 7 (dk_at dksX26_copy_0 9 rfl rfl)
theorem dX26_copy_12 : decode cX26_copy 12 = .ok (.iload_n 3, 1) := dk_29 (dk_at dksX26_copy_0 12 rfl rfl)
theorem dX26_copy_13 : decode cX26_copy 13 = .ok (.iload 4, 2) := dk_21 4 (dk_at dksX26_copy_0 13 rfl rfl)
theorem dX26_copy_15 : decode cX26_copy 15 = .ok (.invokestatic 13, 3) := dk_184 0 13 (dk_at dksX26_copy_0 15 rfl rfl)
theorem dX26_copy_18 : decode cX26_copy 18 = .ok (.return_, 1) := dk_177 (dk_at dksX26_copy_0 18 rfl rfl)
theorem q123 : (Jvm.Cond.initialized "PointsForAll$IntRow") ∈ lw_all := lw_g (lw_at lw_m1 42 rfl) rfl
theorem q1282 : (Jvm.Cond.instantiable "PointsForAll$IntRow" (1 : Nat)) ∈ lw_all := lw_g (lw_at lw_m6 1 rfl) rfl
theorem q1284 : (Jvm.Cond.instanceMethod ({ cls := "PointsForAll$IntRow", name := "<init>", desc := "(I)V" } : Jvm.MethodName)) ∈ lw_all := lw_g (lw_at lw_m6 3 rfl) rfl
theorem q1285 : (Jvm.Cond.code ({ cls := "PointsForAll$IntRow", name := "<init>", desc := "(I)V" } : Jvm.MethodName) prog_13_method_1_code (2 : Nat) (Option.none : Option Jvm.ClassFile.FieldType)) ∈ lw_all := lw_g (lw_at lw_m6 4 rfl) rfl
theorem q1286 : (Jvm.Cond.methodLinkNest "PointsForAll$IntRow" (1 : Nat) ({ cls := "PointsForAll$Row", name := "<init>", desc := "()V" } : Jvm.MethodName) "PointsForAll") ∈ lw_tbl := lw_at lw_m6 5 rfl
theorem q1287 : (Jvm.Cond.fieldLink "PointsForAll$IntRow" (7 : Nat) "PointsForAll$IntRow" "items" "[I") ∈ lw_all := lw_g (lw_at lw_m6 6 rfl) rfl
theorem q1288 : (Jvm.Cond.laysFinal "PointsForAll$IntRow" "PointsForAll$IntRow" "items" "[I") ∈ lw_all := lw_g (lw_at lw_m6 7 rfl) rfl
theorem q1289 : (Jvm.Cond.soleField "PointsForAll$IntRow" "items") ∈ lw_all := lw_g (lw_at lw_m6 8 rfl) rfl
theorem q1290 : (Jvm.Cond.superclass "PointsForAll$IntRow" "PointsForAll$Row") ∈ lw_all := lw_g (lw_at lw_m6 9 rfl) rfl
theorem q1327 : (Jvm.Cond.selects "PointsForAll$IntRow" ({ cls := "PointsForAll$Row", name := "put", desc := "(IJ)Z" } : Jvm.MethodName) ({ cls := "PointsForAll$IntRow", name := "put", desc := "(IJ)Z" } : Jvm.MethodName)) ∈ lw_all := lw_g (lw_at lw_m6 46 rfl) rfl
theorem q1328 : (Jvm.Cond.instanceMethod ({ cls := "PointsForAll$IntRow", name := "put", desc := "(IJ)Z" } : Jvm.MethodName)) ∈ lw_all := lw_g (lw_at lw_m6 47 rfl) rfl
theorem q1329 : (Jvm.Cond.code ({ cls := "PointsForAll$IntRow", name := "put", desc := "(IJ)Z" } : Jvm.MethodName) prog_13_method_5_code (4 : Nat) (Option.some Jvm.ClassFile.FieldType.boolean)) ∈ lw_all := lw_g (lw_at lw_m6 48 rfl) rfl
theorem q1350 : (Jvm.Cond.selects "PointsForAll$IntRow" ({ cls := "PointsForAll$Row", name := "at", desc := "(I)J" } : Jvm.MethodName) ({ cls := "PointsForAll$IntRow", name := "at", desc := "(I)J" } : Jvm.MethodName)) ∈ lw_all := lw_g (lw_at lw_m6 69 rfl) rfl
theorem q1351 : (Jvm.Cond.instanceMethod ({ cls := "PointsForAll$IntRow", name := "at", desc := "(I)J" } : Jvm.MethodName)) ∈ lw_all := lw_g (lw_at lw_m6 70 rfl) rfl
theorem q1352 : (Jvm.Cond.code ({ cls := "PointsForAll$IntRow", name := "at", desc := "(I)J" } : Jvm.MethodName) prog_13_method_4_code (2 : Nat) (Option.some Jvm.ClassFile.FieldType.long)) ∈ lw_all := lw_g (lw_at lw_m6 71 rfl) rfl
theorem q1376 : (Jvm.Cond.selects "PointsForAll$IntRow" ({ cls := "PointsForAll$Row", name := "copy", desc := "(ILPointsForAll$Row;II)V" } : Jvm.MethodName) ({ cls := "PointsForAll$IntRow", name := "copy", desc := "(ILPointsForAll$Row;II)V" } : Jvm.MethodName)) ∈ lw_all := lw_g (lw_at lw_m6 95 rfl) rfl
theorem q1377 : (Jvm.Cond.instanceMethod ({ cls := "PointsForAll$IntRow", name := "copy", desc := "(ILPointsForAll$Row;II)V" } : Jvm.MethodName)) ∈ lw_all := lw_g (lw_at lw_m6 96 rfl) rfl
theorem q1378 : (Jvm.Cond.code ({ cls := "PointsForAll$IntRow", name := "copy", desc := "(ILPointsForAll$Row;II)V" } : Jvm.MethodName) prog_13_method_6_code (5 : Nat) (Option.none : Option Jvm.ClassFile.FieldType)) ∈ lw_all := lw_g (lw_at lw_m6 97 rfl) rfl
theorem q1379 : (Jvm.Cond.classLink "PointsForAll$IntRow" (8 : Nat) "PointsForAll$IntRow") ∈ lw_all := lw_g (lw_at lw_m6 98 rfl) rfl
theorem q1380 : (Jvm.Cond.methodLink "PointsForAll$IntRow" (13 : Nat) ({ cls := "java/lang/System", name := "arraycopy", desc := "(Ljava/lang/Object;ILjava/lang/Object;II)V" } : Jvm.MethodName)) ∈ lw_all := lw_g (lw_at lw_m6 99 rfl) rfl
theorem q2013 : (Jvm.Cond.castable "PointsForAll$IntRow" "PointsForAll$Row") ∈ lw_tbl := lw_at lw_m9 12 rfl
theorem q2033 : (Jvm.Cond.castable "PointsForAll$IntRow" "PointsForAll$Held") ∈ lw_tbl := lw_at lw_m9 32 rfl
theorem in_X26 : ∀ w ∈ wsX260, w ∈ lw_all := lw_in wsX260 [1288] (by decide +kernel) (by decide +kernel)

/-! PointsForAll$LongRow -/
set_option maxRecDepth 100000
def RX27 : String := "PointsForAll$LongRow"
def TX27 : u_T := fun k => match k with
  | _ => ("PointsForAll$LongRow", "items", "[J", true)
def tyX27 : Nat → FieldType := fun k => match k with
  | _ => .array .long
abbrev wsX270 : List Cond := u_ws RX27 TX27 1
theorem nmX27 : ∀ a, a < 1 → ∀ b, b < 1 → a ≠ b → (TX27 a).2.1 ≠ (TX27 b).2.1 := by decide +kernel
theorem tyX27_ok : ∀ k, k < 1 → parseFieldDescriptor (TX27 k).2.2.1 = some (tyX27 k) := by decide +kernel
abbrev cX27_init : ByteArray := prog_17_method_1_code
def yX27_init : MethodName := ⟨RX27, "<init>", "(I)V"⟩
def dkwX27_init_0 : List UInt8 := [42, 183, 0, 1, 42, 27, 188, 11, 181, 0, 7, 177]
abbrev dktX27_init_0 : List UInt8 := dkwX27_init_0 ++ []
theorem dksX27_init_0 : cX27_init.data.toList.drop 0 = dktX27_init_0 := by decide +kernel
theorem dX27_init_0 : decode cX27_init 0 = .ok (.aload_n 0, 1) := dk_42 (dk_at dksX27_init_0 0 rfl rfl)
theorem dX27_init_1 : decode cX27_init 1 = .ok (.invokespecial 1, 3) := dk_183 0 1 (dk_at dksX27_init_0 1 rfl rfl)
theorem dX27_init_4 : decode cX27_init 4 = .ok (.aload_n 0, 1) := dk_42 (dk_at dksX27_init_0 4 rfl rfl)
theorem dX27_init_5 : decode cX27_init 5 = .ok (.iload_n 1, 1) := dk_27 (dk_at dksX27_init_0 5 rfl rfl)
theorem dX27_init_6 : decode cX27_init 6 = .ok (.newarray .long, 2) := dk_188_11 (dk_at dksX27_init_0 6 rfl rfl)
theorem dX27_init_8 : decode cX27_init 8 = .ok (.putfield 7, 3) := dk_181 0 7 (dk_at dksX27_init_0 8 rfl rfl)
theorem dX27_init_11 : decode cX27_init 11 = .ok (.return_, 1) := dk_177 (dk_at dksX27_init_0 11 rfl rfl)
abbrev cX27_put : ByteArray := prog_17_method_5_code
def yX27_put : MethodName := ⟨RX27, "put", "(IJ)Z"⟩
def dkwX27_put_0 : List UInt8 := [42, 180, 0, 7, 27, 32, 80, 4, 172]
abbrev dktX27_put_0 : List UInt8 := dkwX27_put_0 ++ []
theorem dksX27_put_0 : cX27_put.data.toList.drop 0 = dktX27_put_0 := by decide +kernel
theorem dX27_put_0 : decode cX27_put 0 = .ok (.aload_n 0, 1) := dk_42 (dk_at dksX27_put_0 0 rfl rfl)
theorem dX27_put_1 : decode cX27_put 1 = .ok (.getfield 7, 3) := dk_180 0 7 (dk_at dksX27_put_0 1 rfl rfl)
theorem dX27_put_4 : decode cX27_put 4 = .ok (.iload_n 1, 1) := dk_27 (dk_at dksX27_put_0 4 rfl rfl)
theorem dX27_put_5 : decode cX27_put 5 = .ok (.lload_n 2, 1) := dk_32 (dk_at dksX27_put_0 5 rfl rfl)
theorem dX27_put_6 : decode cX27_put 6 = .ok (.lastore, 1) := dk_80 (dk_at dksX27_put_0 6 rfl rfl)
theorem dX27_put_7 : decode cX27_put 7 = .ok (.iconst 1, 1) := dk_4 (dk_at dksX27_put_0 7 rfl rfl)
theorem dX27_put_8 : decode cX27_put 8 = .ok (.ireturn, 1) := dk_172 (dk_at dksX27_put_0 8 rfl rfl)
abbrev cX27_at : ByteArray := prog_17_method_4_code
def yX27_at : MethodName := ⟨RX27, "at", "(I)J"⟩
def dkwX27_at_0 : List UInt8 := [42, 180, 0, 7, 27, 47, 173]
abbrev dktX27_at_0 : List UInt8 := dkwX27_at_0 ++ []
theorem dksX27_at_0 : cX27_at.data.toList.drop 0 = dktX27_at_0 := by decide +kernel
theorem dX27_at_0 : decode cX27_at 0 = .ok (.aload_n 0, 1) := dk_42 (dk_at dksX27_at_0 0 rfl rfl)
theorem dX27_at_1 : decode cX27_at 1 = .ok (.getfield 7, 3) := dk_180 0 7 (dk_at dksX27_at_0 1 rfl rfl)
theorem dX27_at_4 : decode cX27_at 4 = .ok (.iload_n 1, 1) := dk_27 (dk_at dksX27_at_0 4 rfl rfl)
theorem dX27_at_5 : decode cX27_at 5 = .ok (.laload, 1) := dk_47 (dk_at dksX27_at_0 5 rfl rfl)
theorem dX27_at_6 : decode cX27_at 6 = .ok (.lreturn, 1) := dk_173 (dk_at dksX27_at_0 6 rfl rfl)
abbrev cX27_copy : ByteArray := prog_17_method_6_code
def yX27_copy : MethodName := ⟨RX27, "copy", "(ILPointsForAll$Row;II)V"⟩
def dkwX27_copy_0 : List UInt8 := [42, 180, 0, 7, 27, 44, 192, 0, 8, 180, 0, 7, 29, 21, 4, 184, 0, 13, 177]
abbrev dktX27_copy_0 : List UInt8 := dkwX27_copy_0 ++ []
theorem dksX27_copy_0 : cX27_copy.data.toList.drop 0 = dktX27_copy_0 := by decide +kernel
theorem dX27_copy_0 : decode cX27_copy 0 = .ok (.aload_n 0, 1) := dk_42 (dk_at dksX27_copy_0 0 rfl rfl)
theorem dX27_copy_1 : decode cX27_copy 1 = .ok (.getfield 7, 3) := dk_180 0 7 (dk_at dksX27_copy_0 1 rfl rfl)
theorem dX27_copy_4 : decode cX27_copy 4 = .ok (.iload_n 1, 1) := dk_27 (dk_at dksX27_copy_0 4 rfl rfl)
theorem dX27_copy_5 : decode cX27_copy 5 = .ok (.aload_n 2, 1) := dk_44 (dk_at dksX27_copy_0 5 rfl rfl)
theorem dX27_copy_6 : decode cX27_copy 6 = .ok (.checkcast 8, 3) := dk_192 0 8 (dk_at dksX27_copy_0 6 rfl rfl)
theorem dX27_copy_9 : decode cX27_copy 9 = .ok (.getfield 7, 3) := dk_180 0 7 (dk_at dksX27_copy_0 9 rfl rfl)
theorem dX27_copy_12 : decode cX27_copy 12 = .ok (.iload_n 3, 1) := dk_29 (dk_at dksX27_copy_0 12 rfl rfl)
theorem dX27_copy_13 : decode cX27_copy 13 = .ok (.iload 4, 2) := dk_21 4 (dk_at dksX27_copy_0 13 rfl rfl)
theorem dX27_copy_15 : decode cX27_copy 15 = .ok (.invokestatic 13, 3) := dk_184 0 13 (dk_at dksX27_copy_0 15 rfl rfl)
theorem dX27_copy_18 : decode cX27_copy 18 = .ok (.return_, 1) := dk_177 (dk_at dksX27_copy_0 18 rfl rfl)
theorem q124 : (Jvm.Cond.initialized "PointsForAll$LongRow") ∈ lw_all := lw_g (lw_at lw_m1 43 rfl) rfl
theorem q1292 : (Jvm.Cond.instantiable "PointsForAll$LongRow" (1 : Nat)) ∈ lw_all := lw_g (lw_at lw_m6 11 rfl) rfl
theorem q1294 : (Jvm.Cond.instanceMethod ({ cls := "PointsForAll$LongRow", name := "<init>", desc := "(I)V" } : Jvm.MethodName)) ∈ lw_all := lw_g (lw_at lw_m6 13 rfl) rfl
theorem q1295 : (Jvm.Cond.code ({ cls := "PointsForAll$LongRow", name := "<init>", desc := "(I)V" } : Jvm.MethodName) prog_17_method_1_code (2 : Nat) (Option.none : Option Jvm.ClassFile.FieldType)) ∈ lw_all := lw_g (lw_at lw_m6 14 rfl) rfl
theorem q1296 : (Jvm.Cond.methodLinkNest "PointsForAll$LongRow" (1 : Nat) ({ cls := "PointsForAll$Row", name := "<init>", desc := "()V" } : Jvm.MethodName) "PointsForAll") ∈ lw_tbl := lw_at lw_m6 15 rfl
theorem q1297 : (Jvm.Cond.fieldLink "PointsForAll$LongRow" (7 : Nat) "PointsForAll$LongRow" "items" "[J") ∈ lw_all := lw_g (lw_at lw_m6 16 rfl) rfl
theorem q1298 : (Jvm.Cond.laysFinal "PointsForAll$LongRow" "PointsForAll$LongRow" "items" "[J") ∈ lw_all := lw_g (lw_at lw_m6 17 rfl) rfl
theorem q1299 : (Jvm.Cond.soleField "PointsForAll$LongRow" "items") ∈ lw_all := lw_g (lw_at lw_m6 18 rfl) rfl
theorem q1300 : (Jvm.Cond.superclass "PointsForAll$LongRow" "PointsForAll$Row") ∈ lw_all := lw_g (lw_at lw_m6 19 rfl) rfl
theorem q1330 : (Jvm.Cond.selects "PointsForAll$LongRow" ({ cls := "PointsForAll$Row", name := "put", desc := "(IJ)Z" } : Jvm.MethodName) ({ cls := "PointsForAll$LongRow", name := "put", desc := "(IJ)Z" } : Jvm.MethodName)) ∈ lw_all := lw_g (lw_at lw_m6 49 rfl) rfl
theorem q1331 : (Jvm.Cond.instanceMethod ({ cls := "PointsForAll$LongRow", name := "put", desc := "(IJ)Z" } : Jvm.MethodName)) ∈ lw_all := lw_g (lw_at lw_m6 50 rfl) rfl
theorem q1332 : (Jvm.Cond.code ({ cls := "PointsForAll$LongRow", name := "put", desc := "(IJ)Z" } : Jvm.MethodName) prog_17_method_5_code (4 : Nat) (Option.some Jvm.ClassFile.FieldType.boolean)) ∈ lw_all := lw_g (lw_at lw_m6 51 rfl) rfl
theorem q1353 : (Jvm.Cond.selects "PointsForAll$LongRow" ({ cls := "PointsForAll$Row", name := "at", desc := "(I)J" } : Jvm.MethodName) ({ cls := "PointsForAll$LongRow", name := "at", desc := "(I)J" } : Jvm.MethodName)) ∈ lw_all := lw_g (lw_at lw_m6 72 rfl) rfl
theorem q1354 : (Jvm.Cond.instanceMethod ({ cls := "PointsForAll$LongRow", name := "at", desc := "(I)J" } : Jvm.MethodName)) ∈ lw_all := lw_g (lw_at lw_m6 73 rfl) rfl
theorem q1355 : (Jvm.Cond.code ({ cls := "PointsForAll$LongRow", name := "at", desc := "(I)J" } : Jvm.MethodName) prog_17_method_4_code (2 : Nat) (Option.some Jvm.ClassFile.FieldType.long)) ∈ lw_all := lw_g (lw_at lw_m6 74 rfl) rfl
theorem q1381 : (Jvm.Cond.selects "PointsForAll$LongRow" ({ cls := "PointsForAll$Row", name := "copy", desc := "(ILPointsForAll$Row;II)V" } : Jvm.MethodName) ({ cls := "PointsForAll$LongRow", name := "copy", desc := "(ILPointsForAll$Row;II)V" } : Jvm.MethodName)) ∈ lw_all := lw_g (lw_at lw_m6 100 rfl) rfl
theorem q1382 : (Jvm.Cond.instanceMethod ({ cls := "PointsForAll$LongRow", name := "copy", desc := "(ILPointsForAll$Row;II)V" } : Jvm.MethodName)) ∈ lw_all := lw_g (lw_at lw_m6 101 rfl) rfl
theorem q1383 : (Jvm.Cond.code ({ cls := "PointsForAll$LongRow", name := "copy", desc := "(ILPointsForAll$Row;II)V" } : Jvm.MethodName) prog_17_method_6_code (5 : Nat) (Option.none : Option Jvm.ClassFile.FieldType)) ∈ lw_all := lw_g (lw_at lw_m6 102 rfl) rfl
theorem q1384 : (Jvm.Cond.classLink "PointsForAll$LongRow" (8 : Nat) "PointsForAll$LongRow") ∈ lw_all := lw_g (lw_at lw_m6 103 rfl) rfl
theorem q1385 : (Jvm.Cond.methodLink "PointsForAll$LongRow" (13 : Nat) ({ cls := "java/lang/System", name := "arraycopy", desc := "(Ljava/lang/Object;ILjava/lang/Object;II)V" } : Jvm.MethodName)) ∈ lw_all := lw_g (lw_at lw_m6 104 rfl) rfl
theorem q2014 : (Jvm.Cond.castable "PointsForAll$LongRow" "PointsForAll$Row") ∈ lw_tbl := lw_at lw_m9 13 rfl
theorem q2034 : (Jvm.Cond.castable "PointsForAll$LongRow" "PointsForAll$Held") ∈ lw_tbl := lw_at lw_m9 33 rfl
theorem in_X27 : ∀ w ∈ wsX270, w ∈ lw_all := lw_in wsX270 [1298] (by decide +kernel) (by decide +kernel)

/-! PointsForAll$BooleanRow -/
set_option maxRecDepth 100000
def RX28 : String := "PointsForAll$BooleanRow"
def TX28 : u_T := fun k => match k with
  | _ => ("PointsForAll$BooleanRow", "items", "[Z", true)
def tyX28 : Nat → FieldType := fun k => match k with
  | _ => .array .boolean
abbrev wsX280 : List Cond := u_ws RX28 TX28 1
theorem nmX28 : ∀ a, a < 1 → ∀ b, b < 1 → a ≠ b → (TX28 a).2.1 ≠ (TX28 b).2.1 := by decide +kernel
theorem tyX28_ok : ∀ k, k < 1 → parseFieldDescriptor (TX28 k).2.2.1 = some (tyX28 k) := by decide +kernel
abbrev cX28_init : ByteArray := prog_4_method_1_code
def yX28_init : MethodName := ⟨RX28, "<init>", "(I)V"⟩
def dkwX28_init_0 : List UInt8 := [42, 183, 0, 1, 42, 27, 188, 4, 181, 0, 7, 177]
abbrev dktX28_init_0 : List UInt8 := dkwX28_init_0 ++ []
theorem dksX28_init_0 : cX28_init.data.toList.drop 0 = dktX28_init_0 := by decide +kernel
theorem dX28_init_0 : decode cX28_init 0 = .ok (.aload_n 0, 1) := dk_42 (dk_at dksX28_init_0 0 rfl rfl)
theorem dX28_init_1 : decode cX28_init 1 = .ok (.invokespecial 1, 3) := dk_183 0 1 (dk_at dksX28_init_0 1 rfl rfl)
theorem dX28_init_4 : decode cX28_init 4 = .ok (.aload_n 0, 1) := dk_42 (dk_at dksX28_init_0 4 rfl rfl)
theorem dX28_init_5 : decode cX28_init 5 = .ok (.iload_n 1, 1) := dk_27 (dk_at dksX28_init_0 5 rfl rfl)
theorem dX28_init_6 : decode cX28_init 6 = .ok (.newarray .boolean, 2) := dk_188_4 (dk_at dksX28_init_0 6 rfl rfl)
theorem dX28_init_8 : decode cX28_init 8 = .ok (.putfield 7, 3) := dk_181 0 7 (dk_at dksX28_init_0 8 rfl rfl)
theorem dX28_init_11 : decode cX28_init 11 = .ok (.return_, 1) := dk_177 (dk_at dksX28_init_0 11 rfl rfl)
abbrev cX28_put : ByteArray := prog_4_method_5_code
def yX28_put : MethodName := ⟨RX28, "put", "(IJ)Z"⟩
def dkwX28_put_0 : List UInt8 := [42, 180, 0, 7, 27, 32, 9, 148, 153, 0, 7, 4, 167, 0, 4, 3, 84, 4, 172]
abbrev dktX28_put_0 : List UInt8 := dkwX28_put_0 ++ []
theorem dksX28_put_0 : cX28_put.data.toList.drop 0 = dktX28_put_0 := by decide +kernel
theorem dX28_put_0 : decode cX28_put 0 = .ok (.aload_n 0, 1) := dk_42 (dk_at dksX28_put_0 0 rfl rfl)
theorem dX28_put_1 : decode cX28_put 1 = .ok (.getfield 7, 3) := dk_180 0 7 (dk_at dksX28_put_0 1 rfl rfl)
theorem dX28_put_4 : decode cX28_put 4 = .ok (.iload_n 1, 1) := dk_27 (dk_at dksX28_put_0 4 rfl rfl)
theorem dX28_put_5 : decode cX28_put 5 = .ok (.lload_n 2, 1) := dk_32 (dk_at dksX28_put_0 5 rfl rfl)
theorem dX28_put_6 : decode cX28_put 6 = .ok (.lconst 0, 1) := dk_9 (dk_at dksX28_put_0 6 rfl rfl)
theorem dX28_put_7 : decode cX28_put 7 = .ok (.lcmp, 1) := dk_148 (dk_at dksX28_put_0 7 rfl rfl)
theorem dX28_put_8 : decode cX28_put 8 = .ok (.ifCond .eq 7, 3) := dk_153 0 7 (dk_at dksX28_put_0 8 rfl rfl)
theorem dX28_put_11 : decode cX28_put 11 = .ok (.iconst 1, 1) := dk_4 (dk_at dksX28_put_0 11 rfl rfl)
theorem dX28_put_12 : decode cX28_put 12 = .ok (.goto 4, 3) := dk_167 0 4 (dk_at dksX28_put_0 12 rfl rfl)
theorem dX28_put_15 : decode cX28_put 15 = .ok (.iconst 0, 1) := dk_3 (dk_at dksX28_put_0 15 rfl rfl)
theorem dX28_put_16 : decode cX28_put 16 = .ok (.bastore, 1) := dk_84 (dk_at dksX28_put_0 16 rfl rfl)
theorem dX28_put_17 : decode cX28_put 17 = .ok (.iconst 1, 1) := dk_4 (dk_at dksX28_put_0 17 rfl rfl)
theorem dX28_put_18 : decode cX28_put 18 = .ok (.ireturn, 1) := dk_172 (dk_at dksX28_put_0 18 rfl rfl)
abbrev cX28_at : ByteArray := prog_4_method_4_code
def yX28_at : MethodName := ⟨RX28, "at", "(I)J"⟩
def dkwX28_at_0 : List UInt8 := [42, 180, 0, 7, 27, 51, 153, 0, 7, 10, 167, 0, 4, 9, 173]
abbrev dktX28_at_0 : List UInt8 := dkwX28_at_0 ++ []
theorem dksX28_at_0 : cX28_at.data.toList.drop 0 = dktX28_at_0 := by decide +kernel
theorem dX28_at_0 : decode cX28_at 0 = .ok (.aload_n 0, 1) := dk_42 (dk_at dksX28_at_0 0 rfl rfl)
theorem dX28_at_1 : decode cX28_at 1 = .ok (.getfield 7, 3) := dk_180 0 7 (dk_at dksX28_at_0 1 rfl rfl)
theorem dX28_at_4 : decode cX28_at 4 = .ok (.iload_n 1, 1) := dk_27 (dk_at dksX28_at_0 4 rfl rfl)
theorem dX28_at_5 : decode cX28_at 5 = .ok (.baload, 1) := dk_51 (dk_at dksX28_at_0 5 rfl rfl)
theorem dX28_at_6 : decode cX28_at 6 = .ok (.ifCond .eq 7, 3) := dk_153 0 7 (dk_at dksX28_at_0 6 rfl rfl)
theorem dX28_at_9 : decode cX28_at 9 = .ok (.lconst 1, 1) := dk_10 (dk_at dksX28_at_0 9 rfl rfl)
theorem dX28_at_10 : decode cX28_at 10 = .ok (.goto 4, 3) := dk_167 0 4 (dk_at dksX28_at_0 10 rfl rfl)
theorem dX28_at_13 : decode cX28_at 13 = .ok (.lconst 0, 1) := dk_9 (dk_at dksX28_at_0 13 rfl rfl)
theorem dX28_at_14 : decode cX28_at 14 = .ok (.lreturn, 1) := dk_173 (dk_at dksX28_at_0 14 rfl rfl)
abbrev cX28_copy : ByteArray := prog_4_method_6_code
def yX28_copy : MethodName := ⟨RX28, "copy", "(ILPointsForAll$Row;II)V"⟩
def dkwX28_copy_0 : List UInt8 := [42, 180, 0, 7, 27, 44, 192, 0, 8, 180, 0, 7, 29, 21, 4, 184, 0, 13, 177]
abbrev dktX28_copy_0 : List UInt8 := dkwX28_copy_0 ++ []
theorem dksX28_copy_0 : cX28_copy.data.toList.drop 0 = dktX28_copy_0 := by decide +kernel
theorem dX28_copy_0 : decode cX28_copy 0 = .ok (.aload_n 0, 1) := dk_42 (dk_at dksX28_copy_0 0 rfl rfl)
theorem dX28_copy_1 : decode cX28_copy 1 = .ok (.getfield 7, 3) := dk_180 0 7 (dk_at dksX28_copy_0 1 rfl rfl)
theorem dX28_copy_4 : decode cX28_copy 4 = .ok (.iload_n 1, 1) := dk_27 (dk_at dksX28_copy_0 4 rfl rfl)
theorem dX28_copy_5 : decode cX28_copy 5 = .ok (.aload_n 2, 1) := dk_44 (dk_at dksX28_copy_0 5 rfl rfl)
theorem dX28_copy_6 : decode cX28_copy 6 = .ok (.checkcast 8, 3) := dk_192 0 8 (dk_at dksX28_copy_0 6 rfl rfl)
theorem dX28_copy_9 : decode cX28_copy 9 = .ok (.getfield 7, 3) := dk_180 0 7 (dk_at dksX28_copy_0 9 rfl rfl)
theorem dX28_copy_12 : decode cX28_copy 12 = .ok (.iload_n 3, 1) := dk_29 (dk_at dksX28_copy_0 12 rfl rfl)
theorem dX28_copy_13 : decode cX28_copy 13 = .ok (.iload 4, 2) := dk_21 4 (dk_at dksX28_copy_0 13 rfl rfl)
theorem dX28_copy_15 : decode cX28_copy 15 = .ok (.invokestatic 13, 3) := dk_184 0 13 (dk_at dksX28_copy_0 15 rfl rfl)
theorem dX28_copy_18 : decode cX28_copy 18 = .ok (.return_, 1) := dk_177 (dk_at dksX28_copy_0 18 rfl rfl)
theorem q125 : (Jvm.Cond.initialized "PointsForAll$BooleanRow") ∈ lw_all := lw_g (lw_at lw_m1 44 rfl) rfl
theorem q1303 : (Jvm.Cond.instantiable "PointsForAll$BooleanRow" (1 : Nat)) ∈ lw_all := lw_g (lw_at lw_m6 22 rfl) rfl
theorem q1305 : (Jvm.Cond.instanceMethod ({ cls := "PointsForAll$BooleanRow", name := "<init>", desc := "(I)V" } : Jvm.MethodName)) ∈ lw_all := lw_g (lw_at lw_m6 24 rfl) rfl
theorem q1306 : (Jvm.Cond.code ({ cls := "PointsForAll$BooleanRow", name := "<init>", desc := "(I)V" } : Jvm.MethodName) prog_4_method_1_code (2 : Nat) (Option.none : Option Jvm.ClassFile.FieldType)) ∈ lw_all := lw_g (lw_at lw_m6 25 rfl) rfl
theorem q1307 : (Jvm.Cond.methodLinkNest "PointsForAll$BooleanRow" (1 : Nat) ({ cls := "PointsForAll$Row", name := "<init>", desc := "()V" } : Jvm.MethodName) "PointsForAll") ∈ lw_tbl := lw_at lw_m6 26 rfl
theorem q1308 : (Jvm.Cond.fieldLink "PointsForAll$BooleanRow" (7 : Nat) "PointsForAll$BooleanRow" "items" "[Z") ∈ lw_all := lw_g (lw_at lw_m6 27 rfl) rfl
theorem q1309 : (Jvm.Cond.laysFinal "PointsForAll$BooleanRow" "PointsForAll$BooleanRow" "items" "[Z") ∈ lw_all := lw_g (lw_at lw_m6 28 rfl) rfl
theorem q1310 : (Jvm.Cond.soleField "PointsForAll$BooleanRow" "items") ∈ lw_all := lw_g (lw_at lw_m6 29 rfl) rfl
theorem q1311 : (Jvm.Cond.superclass "PointsForAll$BooleanRow" "PointsForAll$Row") ∈ lw_all := lw_g (lw_at lw_m6 30 rfl) rfl
theorem q1321 : (Jvm.Cond.selects "PointsForAll$BooleanRow" ({ cls := "PointsForAll$Row", name := "put", desc := "(IJ)Z" } : Jvm.MethodName) ({ cls := "PointsForAll$BooleanRow", name := "put", desc := "(IJ)Z" } : Jvm.MethodName)) ∈ lw_all := lw_g (lw_at lw_m6 40 rfl) rfl
theorem q1322 : (Jvm.Cond.instanceMethod ({ cls := "PointsForAll$BooleanRow", name := "put", desc := "(IJ)Z" } : Jvm.MethodName)) ∈ lw_all := lw_g (lw_at lw_m6 41 rfl) rfl
theorem q1323 : (Jvm.Cond.code ({ cls := "PointsForAll$BooleanRow", name := "put", desc := "(IJ)Z" } : Jvm.MethodName) prog_4_method_5_code (4 : Nat) (Option.some Jvm.ClassFile.FieldType.boolean)) ∈ lw_all := lw_g (lw_at lw_m6 42 rfl) rfl
theorem q1344 : (Jvm.Cond.selects "PointsForAll$BooleanRow" ({ cls := "PointsForAll$Row", name := "at", desc := "(I)J" } : Jvm.MethodName) ({ cls := "PointsForAll$BooleanRow", name := "at", desc := "(I)J" } : Jvm.MethodName)) ∈ lw_all := lw_g (lw_at lw_m6 63 rfl) rfl
theorem q1345 : (Jvm.Cond.instanceMethod ({ cls := "PointsForAll$BooleanRow", name := "at", desc := "(I)J" } : Jvm.MethodName)) ∈ lw_all := lw_g (lw_at lw_m6 64 rfl) rfl
theorem q1346 : (Jvm.Cond.code ({ cls := "PointsForAll$BooleanRow", name := "at", desc := "(I)J" } : Jvm.MethodName) prog_4_method_4_code (2 : Nat) (Option.some Jvm.ClassFile.FieldType.long)) ∈ lw_all := lw_g (lw_at lw_m6 65 rfl) rfl
theorem q1364 : (Jvm.Cond.selects "PointsForAll$BooleanRow" ({ cls := "PointsForAll$Row", name := "copy", desc := "(ILPointsForAll$Row;II)V" } : Jvm.MethodName) ({ cls := "PointsForAll$BooleanRow", name := "copy", desc := "(ILPointsForAll$Row;II)V" } : Jvm.MethodName)) ∈ lw_all := lw_g (lw_at lw_m6 83 rfl) rfl
theorem q1365 : (Jvm.Cond.instanceMethod ({ cls := "PointsForAll$BooleanRow", name := "copy", desc := "(ILPointsForAll$Row;II)V" } : Jvm.MethodName)) ∈ lw_all := lw_g (lw_at lw_m6 84 rfl) rfl
theorem q1366 : (Jvm.Cond.code ({ cls := "PointsForAll$BooleanRow", name := "copy", desc := "(ILPointsForAll$Row;II)V" } : Jvm.MethodName) prog_4_method_6_code (5 : Nat) (Option.none : Option Jvm.ClassFile.FieldType)) ∈ lw_all := lw_g (lw_at lw_m6 85 rfl) rfl
theorem q1367 : (Jvm.Cond.classLink "PointsForAll$BooleanRow" (8 : Nat) "PointsForAll$BooleanRow") ∈ lw_all := lw_g (lw_at lw_m6 86 rfl) rfl
theorem q1368 : (Jvm.Cond.methodLink "PointsForAll$BooleanRow" (13 : Nat) ({ cls := "java/lang/System", name := "arraycopy", desc := "(Ljava/lang/Object;ILjava/lang/Object;II)V" } : Jvm.MethodName)) ∈ lw_all := lw_g (lw_at lw_m6 87 rfl) rfl
theorem q2011 : (Jvm.Cond.castable "PointsForAll$BooleanRow" "PointsForAll$Row") ∈ lw_tbl := lw_at lw_m9 10 rfl
theorem q2035 : (Jvm.Cond.castable "PointsForAll$BooleanRow" "PointsForAll$Held") ∈ lw_tbl := lw_at lw_m9 34 rfl
theorem in_X28 : ∀ w ∈ wsX280, w ∈ lw_all := lw_in wsX280 [1309] (by decide +kernel) (by decide +kernel)

theorem q81 : (Jvm.Cond.initialized "PointsForAllLaw") ∈ lw_all := lw_g (lw_at lw_m1 0 rfl) rfl
set_option maxRecDepth 100000
theorem q127 : (Jvm.Cond.classLink "PointsForAllLaw" (7 : Nat) "PointsForAll") ∈ lw_all := lw_g (lw_at lw_m1 46 rfl) rfl
theorem q129 : (Jvm.Cond.methodLink "PointsForAllLaw" (9 : Nat) ({ cls := "PointsForAll", name := "<init>", desc := "()V" } : Jvm.MethodName)) ∈ lw_all := lw_g (lw_at lw_m1 48 rfl) rfl
theorem q254 : (Jvm.Cond.methodLink "PointsForAllLaw" (13 : Nat) ({ cls := "PointsForAll", name := "thing", desc := "(III)I" } : Jvm.MethodName)) ∈ lw_all := lw_g (lw_at lw_m1 173 rfl) rfl
theorem q286 : (Jvm.Cond.methodLink "PointsForAllLaw" (18 : Nat) ({ cls := "PointsForAll", name := "things", desc := "(III)I" } : Jvm.MethodName)) ∈ lw_all := lw_g (lw_at lw_m1 205 rfl) rfl
theorem q426 : (Jvm.Cond.methodLink "PointsForAllLaw" (26 : Nat) ({ cls := "PointsForAll", name := "sort", desc := "(III)I" } : Jvm.MethodName)) ∈ lw_all := lw_g (lw_at lw_m2 105 rfl) rfl
theorem q459 : (Jvm.Cond.methodLink "PointsForAllLaw" (34 : Nat) ({ cls := "PointsForAll", name := "of", desc := "(II)I" } : Jvm.MethodName)) ∈ lw_all := lw_g (lw_at lw_m2 138 rfl) rfl
theorem q475 : (Jvm.Cond.methodLink "PointsForAllLaw" (126 : Nat) ({ cls := "PointsForAll", name := "undo", desc := "()I" } : Jvm.MethodName)) ∈ lw_all := lw_g (lw_at lw_m2 154 rfl) rfl
theorem q483 : (Jvm.Cond.methodLink "PointsForAllLaw" (130 : Nat) ({ cls := "PointsForAll", name := "redo", desc := "()I" } : Jvm.MethodName)) ∈ lw_all := lw_g (lw_at lw_m2 162 rfl) rfl
theorem q487 : (Jvm.Cond.methodLink "PointsForAllLaw" (22 : Nat) ({ cls := "PointsForAll", name := "mend", desc := "(III)I" } : Jvm.MethodName)) ∈ lw_all := lw_g (lw_at lw_m2 166 rfl) rfl
theorem q521 : (Jvm.Cond.methodLink "PointsForAllLaw" (30 : Nat) ({ cls := "PointsForAll", name := "purse", desc := "(III)I" } : Jvm.MethodName)) ∈ lw_all := lw_g (lw_at lw_m2 200 rfl) rfl
theorem q525 : (Jvm.Cond.methodLink "PointsForAllLaw" (39 : Nat) ({ cls := "PointsForAll", name := "feed", desc := "(II)I" } : Jvm.MethodName)) ∈ lw_all := lw_g (lw_at lw_m2 204 rfl) rfl
theorem q529 : (Jvm.Cond.methodLink "PointsForAllLaw" (43 : Nat) ({ cls := "PointsForAll", name := "want", desc := "()I" } : Jvm.MethodName)) ∈ lw_all := lw_g (lw_at lw_m2 208 rfl) rfl
theorem q774 : (Jvm.Cond.methodLink "PointsForAllLaw" (48 : Nat) ({ cls := "PointsForAll", name := "worth", desc := "(II)I" } : Jvm.MethodName)) ∈ lw_all := lw_g (lw_at lw_m3 213 rfl) rfl
theorem q812 : (Jvm.Cond.methodLink "PointsForAllLaw" (52 : Nat) ({ cls := "PointsForAll", name := "basket", desc := "(II)I" } : Jvm.MethodName)) ∈ lw_all := lw_g (lw_at lw_m4 11 rfl) rfl
theorem q840 : (Jvm.Cond.methodLink "PointsForAllLaw" (56 : Nat) ({ cls := "PointsForAll", name := "wanted", desc := "(II)I" } : Jvm.MethodName)) ∈ lw_all := lw_g (lw_at lw_m4 39 rfl) rfl
theorem q860 : (Jvm.Cond.methodLink "PointsForAllLaw" (60 : Nat) ({ cls := "PointsForAll", name := "led", desc := "(II)I" } : Jvm.MethodName)) ∈ lw_all := lw_g (lw_at lw_m4 59 rfl) rfl
theorem q864 : (Jvm.Cond.methodLink "PointsForAllLaw" (64 : Nat) ({ cls := "PointsForAll", name := "found", desc := "(II)I" } : Jvm.MethodName)) ∈ lw_all := lw_g (lw_at lw_m4 63 rfl) rfl
theorem q880 : (Jvm.Cond.methodLink "PointsForAllLaw" (68 : Nat) ({ cls := "PointsForAll", name := "set", desc := "(I)I" } : Jvm.MethodName)) ∈ lw_all := lw_g (lw_at lw_m4 79 rfl) rfl
theorem q884 : (Jvm.Cond.methodLink "PointsForAllLaw" (73 : Nat) ({ cls := "PointsForAll", name := "tell", desc := "(II)I" } : Jvm.MethodName)) ∈ lw_all := lw_g (lw_at lw_m4 83 rfl) rfl
theorem q892 : (Jvm.Cond.methodLink "PointsForAllLaw" (77 : Nat) ({ cls := "PointsForAll", name := "judge", desc := "()I" } : Jvm.MethodName)) ∈ lw_all := lw_g (lw_at lw_m4 91 rfl) rfl
theorem q896 : (Jvm.Cond.methodLink "PointsForAllLaw" (81 : Nat) ({ cls := "PointsForAll", name := "changed", desc := "(III)I" } : Jvm.MethodName)) ∈ lw_all := lw_g (lw_at lw_m4 95 rfl) rfl
theorem q908 : (Jvm.Cond.methodLink "PointsForAllLaw" (85 : Nat) ({ cls := "PointsForAll", name := "free", desc := "()I" } : Jvm.MethodName)) ∈ lw_all := lw_g (lw_at lw_m4 107 rfl) rfl
theorem q912 : (Jvm.Cond.methodLink "PointsForAllLaw" (89 : Nat) ({ cls := "PointsForAll", name := "black", desc := "(III)I" } : Jvm.MethodName)) ∈ lw_all := lw_g (lw_at lw_m4 111 rfl) rfl
theorem q916 : (Jvm.Cond.methodLink "PointsForAllLaw" (93 : Nat) ({ cls := "PointsForAll", name := "beside", desc := "(II)I" } : Jvm.MethodName)) ∈ lw_all := lw_g (lw_at lw_m4 115 rfl) rfl
theorem q931 : (Jvm.Cond.methodLink "PointsForAllLaw" (97 : Nat) ({ cls := "PointsForAll", name := "loses", desc := "(I)I" } : Jvm.MethodName)) ∈ lw_all := lw_g (lw_at lw_m4 130 rfl) rfl
theorem q935 : (Jvm.Cond.methodLink "PointsForAllLaw" (101 : Nat) ({ cls := "PointsForAll", name := "fewest", desc := "()I" } : Jvm.MethodName)) ∈ lw_all := lw_g (lw_at lw_m4 134 rfl) rfl
theorem q945 : (Jvm.Cond.methodLink "PointsForAllLaw" (105 : Nat) ({ cls := "PointsForAll", name := "least", desc := "(I)I" } : Jvm.MethodName)) ∈ lw_all := lw_g (lw_at lw_m4 144 rfl) rfl
theorem q949 : (Jvm.Cond.methodLink "PointsForAllLaw" (109 : Nat) ({ cls := "PointsForAll", name := "months", desc := "(IIII)I" } : Jvm.MethodName)) ∈ lw_all := lw_g (lw_at lw_m4 148 rfl) rfl
theorem q953 : (Jvm.Cond.methodLink "PointsForAllLaw" (114 : Nat) ({ cls := "PointsForAll", name := "foresight", desc := "(I)I" } : Jvm.MethodName)) ∈ lw_all := lw_g (lw_at lw_m4 152 rfl) rfl
theorem q957 : (Jvm.Cond.methodLink "PointsForAllLaw" (118 : Nat) ({ cls := "PointsForAll", name := "cheap", desc := "(I)I" } : Jvm.MethodName)) ∈ lw_all := lw_g (lw_at lw_m4 156 rfl) rfl
theorem q961 : (Jvm.Cond.methodLink "PointsForAllLaw" (122 : Nat) ({ cls := "PointsForAll", name := "wrong", desc := "(I)I" } : Jvm.MethodName)) ∈ lw_all := lw_g (lw_at lw_m4 160 rfl) rfl
theorem q968 : (Jvm.Cond.methodLink "PointsForAllLaw" (134 : Nat) ({ cls := "PointsForAll", name := "body", desc := "(I)I" } : Jvm.MethodName)) ∈ lw_all := lw_g (lw_at lw_m4 167 rfl) rfl
theorem q1081 : (Jvm.Cond.methodLink "PointsForAllLaw" (138 : Nat) ({ cls := "PointsForAll", name := "act", desc := "(III)I" } : Jvm.MethodName)) ∈ lw_all := lw_g (lw_at lw_m5 40 rfl) rfl
theorem q1229 : (Jvm.Cond.methodLink "PointsForAllLaw" (142 : Nat) ({ cls := "PointsForAll", name := "trace", desc := "(I)I" } : Jvm.MethodName)) ∈ lw_all := lw_g (lw_at lw_m5 188 rfl) rfl
theorem q1233 : (Jvm.Cond.methodLink "PointsForAllLaw" (146 : Nat) ({ cls := "PointsForAll", name := "keep", desc := "(II)I" } : Jvm.MethodName)) ∈ lw_all := lw_g (lw_at lw_m5 192 rfl) rfl
theorem q1237 : (Jvm.Cond.methodLink "PointsForAllLaw" (150 : Nat) ({ cls := "PointsForAll", name := "row", desc := "(III)I" } : Jvm.MethodName)) ∈ lw_all := lw_g (lw_at lw_m5 196 rfl) rfl
theorem q1313 : (Jvm.Cond.methodLink "PointsForAllLaw" (156 : Nat) ({ cls := "PointsForAll", name := "put", desc := "(IIJ)I" } : Jvm.MethodName)) ∈ lw_all := lw_g (lw_at lw_m6 32 rfl) rfl
theorem q1336 : (Jvm.Cond.methodLink "PointsForAllLaw" (161 : Nat) ({ cls := "PointsForAll", name := "element", desc := "(II)J" } : Jvm.MethodName)) ∈ lw_all := lw_g (lw_at lw_m6 55 rfl) rfl
theorem q1357 : (Jvm.Cond.methodLink "PointsForAllLaw" (166 : Nat) ({ cls := "PointsForAll", name := "shift", desc := "(IIIII)I" } : Jvm.MethodName)) ∈ lw_all := lw_g (lw_at lw_m6 76 rfl) rfl
theorem q1391 : (Jvm.Cond.methodLink "PointsForAllLaw" (171 : Nat) ({ cls := "PointsForAll", name := "taken", desc := "(II)I" } : Jvm.MethodName)) ∈ lw_all := lw_g (lw_at lw_m6 110 rfl) rfl
theorem q1443 : (Jvm.Cond.methodLink "PointsForAllLaw" (175 : Nat) ({ cls := "PointsForAll", name := "count", desc := "(I)I" } : Jvm.MethodName)) ∈ lw_all := lw_g (lw_at lw_m6 162 rfl) rfl
theorem q1447 : (Jvm.Cond.classLink "PointsForAllLaw" (10 : Nat) "PointsForAllModel") ∈ lw_all := lw_g (lw_at lw_m6 166 rfl) rfl
theorem q1449 : (Jvm.Cond.methodLink "PointsForAllLaw" (12 : Nat) ({ cls := "PointsForAllModel", name := "<init>", desc := "()V" } : Jvm.MethodName)) ∈ lw_all := lw_g (lw_at lw_m6 168 rfl) rfl
theorem q1619 : (Jvm.Cond.methodLink "PointsForAllLaw" (129 : Nat) ({ cls := "PointsForAllModel", name := "undo", desc := "()I" } : Jvm.MethodName)) ∈ lw_all := lw_g (lw_at lw_m7 98 rfl) rfl
theorem q1623 : (Jvm.Cond.methodLink "PointsForAllLaw" (133 : Nat) ({ cls := "PointsForAllModel", name := "redo", desc := "()I" } : Jvm.MethodName)) ∈ lw_all := lw_g (lw_at lw_m7 102 rfl) rfl
theorem q1627 : (Jvm.Cond.methodLink "PointsForAllLaw" (17 : Nat) ({ cls := "PointsForAllModel", name := "thing", desc := "(III)I" } : Jvm.MethodName)) ∈ lw_all := lw_g (lw_at lw_m7 106 rfl) rfl
theorem q1644 : (Jvm.Cond.methodLink "PointsForAllLaw" (21 : Nat) ({ cls := "PointsForAllModel", name := "things", desc := "(III)I" } : Jvm.MethodName)) ∈ lw_all := lw_g (lw_at lw_m7 123 rfl) rfl
theorem q1653 : (Jvm.Cond.methodLink "PointsForAllLaw" (25 : Nat) ({ cls := "PointsForAllModel", name := "mend", desc := "(III)I" } : Jvm.MethodName)) ∈ lw_all := lw_g (lw_at lw_m7 132 rfl) rfl
theorem q1666 : (Jvm.Cond.methodLink "PointsForAllLaw" (29 : Nat) ({ cls := "PointsForAllModel", name := "sort", desc := "(III)I" } : Jvm.MethodName)) ∈ lw_all := lw_g (lw_at lw_m7 145 rfl) rfl
theorem q1670 : (Jvm.Cond.methodLink "PointsForAllLaw" (33 : Nat) ({ cls := "PointsForAllModel", name := "purse", desc := "(III)I" } : Jvm.MethodName)) ∈ lw_all := lw_g (lw_at lw_m7 149 rfl) rfl
theorem q1678 : (Jvm.Cond.methodLink "PointsForAllLaw" (38 : Nat) ({ cls := "PointsForAllModel", name := "of", desc := "(II)I" } : Jvm.MethodName)) ∈ lw_all := lw_g (lw_at lw_m7 157 rfl) rfl
theorem q1691 : (Jvm.Cond.methodLink "PointsForAllLaw" (42 : Nat) ({ cls := "PointsForAllModel", name := "feed", desc := "(II)I" } : Jvm.MethodName)) ∈ lw_all := lw_g (lw_at lw_m7 170 rfl) rfl
theorem q1696 : (Jvm.Cond.methodLink "PointsForAllLaw" (47 : Nat) ({ cls := "PointsForAllModel", name := "want", desc := "()I" } : Jvm.MethodName)) ∈ lw_all := lw_g (lw_at lw_m7 175 rfl) rfl
theorem q1743 : (Jvm.Cond.methodLink "PointsForAllLaw" (51 : Nat) ({ cls := "PointsForAllModel", name := "worth", desc := "(II)I" } : Jvm.MethodName)) ∈ lw_all := lw_g (lw_at lw_m7 222 rfl) rfl
theorem q1751 : (Jvm.Cond.methodLink "PointsForAllLaw" (55 : Nat) ({ cls := "PointsForAllModel", name := "basket", desc := "(II)I" } : Jvm.MethodName)) ∈ lw_all := lw_g (lw_at lw_m7 230 rfl) rfl
theorem q1779 : (Jvm.Cond.methodLink "PointsForAllLaw" (59 : Nat) ({ cls := "PointsForAllModel", name := "wanted", desc := "(II)I" } : Jvm.MethodName)) ∈ lw_all := lw_g (lw_at lw_m8 18 rfl) rfl
theorem q1799 : (Jvm.Cond.methodLink "PointsForAllLaw" (63 : Nat) ({ cls := "PointsForAllModel", name := "led", desc := "(II)I" } : Jvm.MethodName)) ∈ lw_all := lw_g (lw_at lw_m8 38 rfl) rfl
theorem q1803 : (Jvm.Cond.methodLink "PointsForAllLaw" (67 : Nat) ({ cls := "PointsForAllModel", name := "found", desc := "(II)I" } : Jvm.MethodName)) ∈ lw_all := lw_g (lw_at lw_m8 42 rfl) rfl
theorem q1820 : (Jvm.Cond.methodLink "PointsForAllLaw" (72 : Nat) ({ cls := "PointsForAllModel", name := "set", desc := "(I)I" } : Jvm.MethodName)) ∈ lw_all := lw_g (lw_at lw_m8 59 rfl) rfl
theorem q1824 : (Jvm.Cond.methodLink "PointsForAllLaw" (76 : Nat) ({ cls := "PointsForAllModel", name := "tell", desc := "(II)I" } : Jvm.MethodName)) ∈ lw_all := lw_g (lw_at lw_m8 63 rfl) rfl
theorem q1832 : (Jvm.Cond.methodLink "PointsForAllLaw" (80 : Nat) ({ cls := "PointsForAllModel", name := "judge", desc := "()I" } : Jvm.MethodName)) ∈ lw_all := lw_g (lw_at lw_m8 71 rfl) rfl
theorem q1840 : (Jvm.Cond.methodLink "PointsForAllLaw" (84 : Nat) ({ cls := "PointsForAllModel", name := "changed", desc := "(III)I" } : Jvm.MethodName)) ∈ lw_all := lw_g (lw_at lw_m8 79 rfl) rfl
theorem q1851 : (Jvm.Cond.methodLink "PointsForAllLaw" (88 : Nat) ({ cls := "PointsForAllModel", name := "free", desc := "()I" } : Jvm.MethodName)) ∈ lw_all := lw_g (lw_at lw_m8 90 rfl) rfl
theorem q1855 : (Jvm.Cond.methodLink "PointsForAllLaw" (92 : Nat) ({ cls := "PointsForAllModel", name := "black", desc := "(III)I" } : Jvm.MethodName)) ∈ lw_all := lw_g (lw_at lw_m8 94 rfl) rfl
theorem q1860 : (Jvm.Cond.methodLink "PointsForAllLaw" (96 : Nat) ({ cls := "PointsForAllModel", name := "beside", desc := "(II)I" } : Jvm.MethodName)) ∈ lw_all := lw_g (lw_at lw_m8 99 rfl) rfl
theorem q1873 : (Jvm.Cond.methodLink "PointsForAllLaw" (100 : Nat) ({ cls := "PointsForAllModel", name := "loses", desc := "(I)I" } : Jvm.MethodName)) ∈ lw_all := lw_g (lw_at lw_m8 112 rfl) rfl
theorem q1877 : (Jvm.Cond.methodLink "PointsForAllLaw" (104 : Nat) ({ cls := "PointsForAllModel", name := "fewest", desc := "()I" } : Jvm.MethodName)) ∈ lw_all := lw_g (lw_at lw_m8 116 rfl) rfl
theorem q1888 : (Jvm.Cond.methodLink "PointsForAllLaw" (108 : Nat) ({ cls := "PointsForAllModel", name := "least", desc := "(I)I" } : Jvm.MethodName)) ∈ lw_all := lw_g (lw_at lw_m8 127 rfl) rfl
theorem q1892 : (Jvm.Cond.methodLink "PointsForAllLaw" (113 : Nat) ({ cls := "PointsForAllModel", name := "months", desc := "(IIII)I" } : Jvm.MethodName)) ∈ lw_all := lw_g (lw_at lw_m8 131 rfl) rfl
theorem q1897 : (Jvm.Cond.methodLink "PointsForAllLaw" (117 : Nat) ({ cls := "PointsForAllModel", name := "foresight", desc := "(I)I" } : Jvm.MethodName)) ∈ lw_all := lw_g (lw_at lw_m8 136 rfl) rfl
theorem q1901 : (Jvm.Cond.methodLink "PointsForAllLaw" (121 : Nat) ({ cls := "PointsForAllModel", name := "cheap", desc := "(I)I" } : Jvm.MethodName)) ∈ lw_all := lw_g (lw_at lw_m8 140 rfl) rfl
theorem q1905 : (Jvm.Cond.methodLink "PointsForAllLaw" (125 : Nat) ({ cls := "PointsForAllModel", name := "wrong", desc := "(I)I" } : Jvm.MethodName)) ∈ lw_all := lw_g (lw_at lw_m8 144 rfl) rfl
theorem q1909 : (Jvm.Cond.methodLink "PointsForAllLaw" (137 : Nat) ({ cls := "PointsForAllModel", name := "body", desc := "(I)I" } : Jvm.MethodName)) ∈ lw_all := lw_g (lw_at lw_m8 148 rfl) rfl
theorem q1914 : (Jvm.Cond.methodLink "PointsForAllLaw" (141 : Nat) ({ cls := "PointsForAllModel", name := "act", desc := "(III)I" } : Jvm.MethodName)) ∈ lw_all := lw_g (lw_at lw_m8 153 rfl) rfl
theorem q1942 : (Jvm.Cond.methodLink "PointsForAllLaw" (145 : Nat) ({ cls := "PointsForAllModel", name := "trace", desc := "(I)I" } : Jvm.MethodName)) ∈ lw_all := lw_g (lw_at lw_m8 181 rfl) rfl
theorem q1946 : (Jvm.Cond.methodLink "PointsForAllLaw" (149 : Nat) ({ cls := "PointsForAllModel", name := "keep", desc := "(II)I" } : Jvm.MethodName)) ∈ lw_all := lw_g (lw_at lw_m8 185 rfl) rfl
theorem q1950 : (Jvm.Cond.methodLink "PointsForAllLaw" (153 : Nat) ({ cls := "PointsForAllModel", name := "row", desc := "(III)I" } : Jvm.MethodName)) ∈ lw_all := lw_g (lw_at lw_m8 189 rfl) rfl
theorem q1954 : (Jvm.Cond.methodLink "PointsForAllLaw" (160 : Nat) ({ cls := "PointsForAllModel", name := "put", desc := "(IIJ)I" } : Jvm.MethodName)) ∈ lw_all := lw_g (lw_at lw_m8 193 rfl) rfl
theorem q1965 : (Jvm.Cond.methodLink "PointsForAllLaw" (165 : Nat) ({ cls := "PointsForAllModel", name := "element", desc := "(II)J" } : Jvm.MethodName)) ∈ lw_all := lw_g (lw_at lw_m8 204 rfl) rfl
theorem q1970 : (Jvm.Cond.methodLink "PointsForAllLaw" (170 : Nat) ({ cls := "PointsForAllModel", name := "shift", desc := "(IIIII)I" } : Jvm.MethodName)) ∈ lw_all := lw_g (lw_at lw_m8 209 rfl) rfl
theorem q1974 : (Jvm.Cond.methodLink "PointsForAllLaw" (174 : Nat) ({ cls := "PointsForAllModel", name := "taken", desc := "(II)I" } : Jvm.MethodName)) ∈ lw_all := lw_g (lw_at lw_m8 213 rfl) rfl
theorem q1985 : (Jvm.Cond.methodLink "PointsForAllLaw" (178 : Nat) ({ cls := "PointsForAllModel", name := "count", desc := "(I)I" } : Jvm.MethodName)) ∈ lw_all := lw_g (lw_at lw_m8 224 rfl) rfl
theorem q1989 : (Jvm.Cond.constantLong "PointsForAllLaw" (154 : Nat) (4294967295 : Int64)) ∈ lw_all := lw_g (lw_at lw_m8 228 rfl) rfl

theorem q1091 : (Jvm.Cond.interfaceMethod "PointsForAll$Buys" "PointsForAll$Buys" "buys" "(I)I") ∈ lw_tbl := lw_at lw_m5 50 rfl
set_option maxRecDepth 100000
theorem q1092 : (Jvm.Cond.declares ({ cls := "PointsForAll$Buys", name := "buys", desc := "(I)I" } : Jvm.MethodName)) ∈ lw_tbl := lw_at lw_m5 51 rfl

theorem q1143 : (Jvm.Cond.interfaceMethod "PointsForAll$Tells" "PointsForAll$Tells" "tells" "(I)I") ∈ lw_tbl := lw_at lw_m5 102 rfl
set_option maxRecDepth 100000
theorem q1144 : (Jvm.Cond.declares ({ cls := "PointsForAll$Tells", name := "tells", desc := "(I)I" } : Jvm.MethodName)) ∈ lw_tbl := lw_at lw_m5 103 rfl

theorem q126 : (Jvm.Cond.initialized "java/lang/System") ∈ lw_all := lw_g (lw_at lw_m1 45 rfl) rfl
set_option maxRecDepth 100000
theorem q1369 : (Jvm.Cond.static ({ cls := "java/lang/System", name := "arraycopy", desc := "(Ljava/lang/Object;ILjava/lang/Object;II)V" } : Jvm.MethodName)) ∈ lw_all := lw_g (lw_at lw_m6 88 rfl) rfl
theorem q1370 : (Jvm.Cond.native ({ cls := "java/lang/System", name := "arraycopy", desc := "(Ljava/lang/Object;ILjava/lang/Object;II)V" } : Jvm.MethodName)) ∈ lw_all := lw_g (lw_at lw_m6 89 rfl) rfl

theorem q136 : (Jvm.Cond.arrayOver (Jvm.ClassFile.FieldType.object "PointsForAll$Thing")) ∈ lw_tbl := lw_at lw_m1 55 rfl
set_option maxRecDepth 100000
theorem q138 : (Jvm.Cond.arrayOver (Jvm.ClassFile.FieldType.object "PointsForAll$Sort")) ∈ lw_tbl := lw_at lw_m1 57 rfl
theorem q140 : (Jvm.Cond.arrayOver (Jvm.ClassFile.FieldType.object "PointsForAll$Change")) ∈ lw_tbl := lw_at lw_m1 59 rfl
theorem q142 : (Jvm.Cond.arrayOver (Jvm.ClassFile.FieldType.object "PointsForAll$Line")) ∈ lw_tbl := lw_at lw_m1 61 rfl
theorem q155 : (Jvm.Cond.arrayClass Jvm.ClassFile.FieldType.byte) ∈ lw_all := lw_g (lw_at lw_m1 74 rfl) rfl
theorem q156 : (Jvm.Cond.arrayClass Jvm.ClassFile.FieldType.int) ∈ lw_all := lw_g (lw_at lw_m1 75 rfl) rfl
theorem q158 : (Jvm.Cond.arrayOver (Jvm.ClassFile.FieldType.object "PointsForAll$Purse")) ∈ lw_tbl := lw_at lw_m1 77 rfl
theorem q160 : (Jvm.Cond.arrayOver (Jvm.ClassFile.FieldType.object "PointsForAll$Held")) ∈ lw_tbl := lw_at lw_m1 79 rfl
theorem q1280 : (Jvm.Cond.arrayClass Jvm.ClassFile.FieldType.short) ∈ lw_all := lw_g (lw_at lw_m5 239 rfl) rfl
theorem q1301 : (Jvm.Cond.arrayClass Jvm.ClassFile.FieldType.long) ∈ lw_all := lw_g (lw_at lw_m6 20 rfl) rfl
theorem q1312 : (Jvm.Cond.arrayClass Jvm.ClassFile.FieldType.boolean) ∈ lw_all := lw_g (lw_at lw_m6 31 rfl) rfl

