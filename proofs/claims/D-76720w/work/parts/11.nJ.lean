/-! java/lang/Throwable -/
set_option maxRecDepth 100000
def RJ0 : String := "java/lang/Throwable"
def TJ0 : u_T := fun k => match k with
  | 0 => ("java/lang/Throwable", "cause", "Ljava/lang/Throwable;", false)
  | 1 => ("java/lang/Throwable", "stackTrace", "[Ljava/lang/StackTraceElement;", false)
  | 2 => ("java/lang/Throwable", "suppressedExceptions", "Ljava/util/List;", false)
  | 3 => ("java/lang/Throwable", "detailMessage", "Ljava/lang/String;", false)
  | _ => ("java/lang/Throwable", "backtrace", "Ljava/lang/Object;", false)
def tyJ0 : Nat → FieldType := fun k => match k with
  | 0 => .object "java/lang/Throwable"
  | 1 => .array (.object "java/lang/StackTraceElement")
  | 2 => .object "java/util/List"
  | 3 => .object "java/lang/String"
  | _ => .object "java/lang/Object"
abbrev wsJ00 : List Cond := u_ws RJ0 TJ0 5
theorem nmJ0 : ∀ a, a < 5 → ∀ b, b < 5 → a ≠ b → (TJ0 a).2.1 ≠ (TJ0 b).2.1 := by decide +kernel
theorem tyJ0_ok : ∀ k, k < 5 → parseFieldDescriptor (TJ0 k).2.2.1 = some (tyJ0 k) := by decide +kernel
abbrev cJ0_init : ByteArray := prog_40_method_1_code
def yJ0_init : MethodName := ⟨RJ0, "<init>", "()V"⟩
def dkwJ0_init_1 : List UInt8 := [182, 0, 27, 87, 177]
abbrev dktJ0_init_1 : List UInt8 := dkwJ0_init_1 ++ []
def dkwJ0_init_0 : List UInt8 := [42, 183, 0, 1, 42, 42, 181, 0, 7, 42, 178, 0, 13, 181, 0, 17, 42, 178, 0, 20, 181, 0, 24, 42]
abbrev dktJ0_init_0 : List UInt8 := dkwJ0_init_0 ++ dktJ0_init_1
theorem dksJ0_init_0 : cJ0_init.data.toList.drop 0 = dktJ0_init_0 := by decide +kernel
theorem dksJ0_init_1 : cJ0_init.data.toList.drop 24 = dktJ0_init_1 := dk_seg dksJ0_init_0 24 rfl rfl
theorem dJ0_init_0 : decode cJ0_init 0 = .ok (.aload_n 0, 1) := dk_42 (dk_at dksJ0_init_0 0 rfl rfl)
theorem dJ0_init_1 : decode cJ0_init 1 = .ok (.invokespecial 1, 3) := dk_183 0 1 (dk_at dksJ0_init_0 1 rfl rfl)
theorem dJ0_init_4 : decode cJ0_init 4 = .ok (.aload_n 0, 1) := dk_42 (dk_at dksJ0_init_0 4 rfl rfl)
theorem dJ0_init_5 : decode cJ0_init 5 = .ok (.aload_n 0, 1) := dk_42 (dk_at dksJ0_init_0 5 rfl rfl)
theorem dJ0_init_6 : decode cJ0_init 6 = .ok (.putfield 7, 3) := dk_181 0 7 (dk_at dksJ0_init_0 6 rfl rfl)
theorem dJ0_init_9 : decode cJ0_init 9 = .ok (.aload_n 0, 1) := dk_42 (dk_at dksJ0_init_0 9 rfl rfl)
theorem dJ0_init_10 : decode cJ0_init 10 = .ok (.getstatic 13, 3) := dk_178 0 13 (dk_at dksJ0_init_0 10 rfl rfl)
theorem dJ0_init_13 : decode cJ0_init 13 = .ok (.putfield 17, 3) := dk_181 0 17 (dk_at dksJ0_init_0 13 rfl rfl)
theorem dJ0_init_16 : decode cJ0_init 16 = .ok (.aload_n 0, 1) := dk_42 (dk_at dksJ0_init_0 16 rfl rfl)
theorem dJ0_init_17 : decode cJ0_init 17 = .ok (.getstatic 20, 3) := dk_178 0 20 (dk_at dksJ0_init_0 17 rfl rfl)
theorem dJ0_init_20 : decode cJ0_init 20 = .ok (.putfield 24, 3) := dk_181 0 24 (dk_at dksJ0_init_0 20 rfl rfl)
theorem dJ0_init_23 : decode cJ0_init 23 = .ok (.aload_n 0, 1) := dk_42 (dk_at dksJ0_init_0 23 rfl rfl)
theorem dJ0_init_24 : decode cJ0_init 24 = .ok (.invokevirtual 27, 3) := dk_182 0 27 (dk_at dksJ0_init_1 0 rfl rfl)
theorem dJ0_init_27 : decode cJ0_init 27 = .ok (.pop, 1) := dk_87 (dk_at dksJ0_init_1 3 rfl rfl)
theorem dJ0_init_28 : decode cJ0_init 28 = .ok (.return_, 1) := dk_177 (dk_at dksJ0_init_1 4 rfl rfl)
abbrev cJ0_init_2 : ByteArray := prog_40_method_2_code
def yJ0_init_2 : MethodName := ⟨RJ0, "<init>", "(Ljava/lang/String;)V"⟩
def dkwJ0_init_2_1 : List UInt8 := [182, 0, 27, 87, 42, 43, 181, 0, 31, 177]
abbrev dktJ0_init_2_1 : List UInt8 := dkwJ0_init_2_1 ++ []
def dkwJ0_init_2_0 : List UInt8 := [42, 183, 0, 1, 42, 42, 181, 0, 7, 42, 178, 0, 13, 181, 0, 17, 42, 178, 0, 20, 181, 0, 24, 42]
abbrev dktJ0_init_2_0 : List UInt8 := dkwJ0_init_2_0 ++ dktJ0_init_2_1
theorem dksJ0_init_2_0 : cJ0_init_2.data.toList.drop 0 = dktJ0_init_2_0 := by decide +kernel
theorem dksJ0_init_2_1 : cJ0_init_2.data.toList.drop 24 = dktJ0_init_2_1 := dk_seg dksJ0_init_2_0 24 rfl rfl
theorem dJ0_init_2_0 : decode cJ0_init_2 0 = .ok (.aload_n 0, 1) := dk_42 (dk_at dksJ0_init_2_0 0 rfl rfl)
theorem dJ0_init_2_1 : decode cJ0_init_2 1 = .ok (.invokespecial 1, 3) := dk_183 0 1 (dk_at dksJ0_init_2_0 1 rfl rfl)
theorem dJ0_init_2_4 : decode cJ0_init_2 4 = .ok (.aload_n 0, 1) := dk_42 (dk_at dksJ0_init_2_0 4 rfl rfl)
theorem dJ0_init_2_5 : decode cJ0_init_2 5 = .ok (.aload_n 0, 1) := dk_42 (dk_at dksJ0_init_2_0 5 rfl rfl)
theorem dJ0_init_2_6 : decode cJ0_init_2 6 = .ok (.putfield 7, 3) := dk_181 0 7 (dk_at dksJ0_init_2_0 6 rfl rfl)
theorem dJ0_init_2_9 : decode cJ0_init_2 9 = .ok (.aload_n 0, 1) := dk_42 (dk_at dksJ0_init_2_0 9 rfl rfl)
theorem dJ0_init_2_10 : decode cJ0_init_2 10 = .ok (.getstatic 13, 3) := dk_178 0 13 (dk_at dksJ0_init_2_0 10 rfl rfl)
theorem dJ0_init_2_13 : decode cJ0_init_2 13 = .ok (.putfield 17, 3) := dk_181 0 17 (dk_at dksJ0_init_2_0 13 rfl rfl)
theorem dJ0_init_2_16 : decode cJ0_init_2 16 = .ok (.aload_n 0, 1) := dk_42 (dk_at dksJ0_init_2_0 16 rfl rfl)
theorem dJ0_init_2_17 : decode cJ0_init_2 17 = .ok (.getstatic 20, 3) := dk_178 0 20 (dk_at dksJ0_init_2_0 17 rfl rfl)
theorem dJ0_init_2_20 : decode cJ0_init_2 20 = .ok (.putfield 24, 3) := dk_181 0 24 (dk_at dksJ0_init_2_0 20 rfl rfl)
theorem dJ0_init_2_23 : decode cJ0_init_2 23 = .ok (.aload_n 0, 1) := dk_42 (dk_at dksJ0_init_2_0 23 rfl rfl)
theorem dJ0_init_2_24 : decode cJ0_init_2 24 = .ok (.invokevirtual 27, 3) := dk_182 0 27 (dk_at dksJ0_init_2_1 0 rfl rfl)
theorem dJ0_init_2_27 : decode cJ0_init_2 27 = .ok (.pop, 1) := dk_87 (dk_at dksJ0_init_2_1 3 rfl rfl)
theorem dJ0_init_2_28 : decode cJ0_init_2 28 = .ok (.aload_n 0, 1) := dk_42 (dk_at dksJ0_init_2_1 4 rfl rfl)
theorem dJ0_init_2_29 : decode cJ0_init_2 29 = .ok (.aload_n 1, 1) := dk_43 (dk_at dksJ0_init_2_1 5 rfl rfl)
theorem dJ0_init_2_30 : decode cJ0_init_2 30 = .ok (.putfield 31, 3) := dk_181 0 31 (dk_at dksJ0_init_2_1 6 rfl rfl)
theorem dJ0_init_2_33 : decode cJ0_init_2 33 = .ok (.return_, 1) := dk_177 (dk_at dksJ0_init_2_1 9 rfl rfl)
theorem q145 : (Jvm.Cond.initialized "java/lang/Throwable") ∈ lw_all := lw_g (lw_at lw_m1 8 rfl) rfl
theorem q351 : (Jvm.Cond.declares ({ cls := "java/lang/Throwable", name := "<init>", desc := "()V" } : Jvm.MethodName)) ∈ lw_tbl := lw_at lw_m1 214 rfl
theorem q352 : (Jvm.Cond.declares ({ cls := "java/lang/Throwable", name := "<init>", desc := "(Ljava/lang/String;)V" } : Jvm.MethodName)) ∈ lw_tbl := lw_at lw_m1 215 rfl
theorem q356 : (Jvm.Cond.lays "java/lang/Throwable" "java/lang/Throwable" "cause" "Ljava/lang/Throwable;") ∈ lw_all := lw_g (lw_at lw_m1 219 rfl) rfl
theorem q358 : (Jvm.Cond.lays "java/lang/Throwable" "java/lang/Throwable" "stackTrace" "[Ljava/lang/StackTraceElement;") ∈ lw_all := lw_g (lw_at lw_m1 221 rfl) rfl
theorem q360 : (Jvm.Cond.lays "java/lang/Throwable" "java/lang/Throwable" "suppressedExceptions" "Ljava/util/List;") ∈ lw_all := lw_g (lw_at lw_m1 223 rfl) rfl
theorem q362 : (Jvm.Cond.lays "java/lang/Throwable" "java/lang/Throwable" "detailMessage" "Ljava/lang/String;") ∈ lw_all := lw_g (lw_at lw_m1 225 rfl) rfl
theorem q364 : (Jvm.Cond.lays "java/lang/Throwable" "java/lang/Throwable" "backtrace" "Ljava/lang/Object;") ∈ lw_all := lw_g (lw_at lw_m1 227 rfl) rfl
theorem q365 : (Jvm.Cond.fieldLink "java/lang/Throwable" (198 : Nat) "java/lang/Throwable" "backtrace" "Ljava/lang/Object;") ∈ lw_all := lw_g (lw_at lw_m1 228 rfl) rfl
theorem q366 : (Jvm.Cond.superclass "java/lang/Throwable" "java/lang/Object") ∈ lw_all := lw_g (lw_at lw_m1 229 rfl) rfl
theorem q367 : (Jvm.Cond.instanceMethod ({ cls := "java/lang/Throwable", name := "<init>", desc := "()V" } : Jvm.MethodName)) ∈ lw_all := lw_g (lw_at lw_m1 230 rfl) rfl
theorem q368 : (Jvm.Cond.code ({ cls := "java/lang/Throwable", name := "<init>", desc := "()V" } : Jvm.MethodName) prog_40_method_1_code (1 : Nat) (Option.none : Option Jvm.ClassFile.FieldType)) ∈ lw_all := lw_g (lw_at lw_m1 231 rfl) rfl
theorem q369 : (Jvm.Cond.methodLink "java/lang/Throwable" (1 : Nat) ({ cls := "java/lang/Object", name := "<init>", desc := "()V" } : Jvm.MethodName)) ∈ lw_all := lw_g (lw_at lw_m1 232 rfl) rfl
theorem q370 : (Jvm.Cond.fieldLink "java/lang/Throwable" (13 : Nat) "java/lang/Throwable" "UNASSIGNED_STACK" "[Ljava/lang/StackTraceElement;") ∈ lw_all := lw_g (lw_at lw_m1 233 rfl) rfl
theorem q371 : (Jvm.Cond.laysStatic "java/lang/Throwable" "UNASSIGNED_STACK" "[Ljava/lang/StackTraceElement;") ∈ lw_tbl := lw_at lw_m1 234 rfl
theorem q372 : (Jvm.Cond.fieldLink "java/lang/Throwable" (20 : Nat) "java/lang/Throwable" "SUPPRESSED_SENTINEL" "Ljava/util/List;") ∈ lw_all := lw_g (lw_at lw_m1 235 rfl) rfl
theorem q373 : (Jvm.Cond.laysStatic "java/lang/Throwable" "SUPPRESSED_SENTINEL" "Ljava/util/List;") ∈ lw_tbl := lw_at lw_m1 236 rfl
theorem q374 : (Jvm.Cond.methodLink "java/lang/Throwable" (27 : Nat) ({ cls := "java/lang/Throwable", name := "fillInStackTrace", desc := "()Ljava/lang/Throwable;" } : Jvm.MethodName)) ∈ lw_all := lw_g (lw_at lw_m1 237 rfl) rfl
theorem q375 : (Jvm.Cond.instanceMethod ({ cls := "java/lang/Throwable", name := "fillInStackTrace", desc := "()Ljava/lang/Throwable;" } : Jvm.MethodName)) ∈ lw_all := lw_g (lw_at lw_m1 238 rfl) rfl
theorem q376 : (Jvm.Cond.sameMethod "java/lang/Throwable" "java/lang/Throwable" "fillInStackTrace" "()Ljava/lang/Throwable;") ∈ lw_all := lw_g (lw_at lw_m1 239 rfl) rfl
theorem q379 : (Jvm.Cond.codeSync ({ cls := "java/lang/Throwable", name := "fillInStackTrace", desc := "()Ljava/lang/Throwable;" } : Jvm.MethodName) prog_40_method_18_code (1 : Nat) (Option.some (Jvm.ClassFile.FieldType.object "java/lang/Throwable"))) ∈ lw_all := lw_g (lw_at lw_m2 2 rfl) rfl
theorem q380 : (Jvm.Cond.methodLink "java/lang/Throwable" (202 : Nat) ({ cls := "java/lang/Throwable", name := "fillInStackTrace", desc := "(I)Ljava/lang/Throwable;" } : Jvm.MethodName)) ∈ lw_all := lw_g (lw_at lw_m2 3 rfl) rfl
theorem q381 : (Jvm.Cond.privateMethod ({ cls := "java/lang/Throwable", name := "fillInStackTrace", desc := "(I)Ljava/lang/Throwable;" } : Jvm.MethodName)) ∈ lw_tbl := lw_at lw_m2 4 rfl
theorem q382 : (Jvm.Cond.instanceMethod ({ cls := "java/lang/Throwable", name := "fillInStackTrace", desc := "(I)Ljava/lang/Throwable;" } : Jvm.MethodName)) ∈ lw_all := lw_g (lw_at lw_m2 5 rfl) rfl
theorem q383 : (Jvm.Cond.instantiable "java/lang/Throwable" (6 : Nat)) ∈ lw_all := lw_g (lw_at lw_m2 6 rfl) rfl
theorem q384 : (Jvm.Cond.native ({ cls := "java/lang/Throwable", name := "fillInStackTrace", desc := "(I)Ljava/lang/Throwable;" } : Jvm.MethodName)) ∈ lw_all := lw_g (lw_at lw_m2 7 rfl) rfl
theorem q399 : (Jvm.Cond.fieldLink "java/lang/Throwable" (198 : Nat) "java/lang/Throwable" "backtrace" "Ljava/lang/Object;") ∈ lw_all := lw_g (lw_at lw_m2 22 rfl) rfl
theorem q400 : (Jvm.Cond.fieldLink "java/lang/Throwable" (31 : Nat) "java/lang/Throwable" "detailMessage" "Ljava/lang/String;") ∈ lw_all := lw_g (lw_at lw_m2 23 rfl) rfl
theorem q401 : (Jvm.Cond.fieldLink "java/lang/Throwable" (7 : Nat) "java/lang/Throwable" "cause" "Ljava/lang/Throwable;") ∈ lw_all := lw_g (lw_at lw_m2 24 rfl) rfl
theorem q402 : (Jvm.Cond.fieldLink "java/lang/Throwable" (17 : Nat) "java/lang/Throwable" "stackTrace" "[Ljava/lang/StackTraceElement;") ∈ lw_all := lw_g (lw_at lw_m2 25 rfl) rfl
theorem q403 : (Jvm.Cond.fieldLink "java/lang/Throwable" (24 : Nat) "java/lang/Throwable" "suppressedExceptions" "Ljava/util/List;") ∈ lw_all := lw_g (lw_at lw_m2 26 rfl) rfl
theorem q406 : (Jvm.Cond.soleField "java/lang/Throwable" "backtrace") ∈ lw_all := lw_g (lw_at lw_m2 29 rfl) rfl
theorem q407 : (Jvm.Cond.soleField "java/lang/Throwable" "detailMessage") ∈ lw_all := lw_g (lw_at lw_m2 30 rfl) rfl
theorem q408 : (Jvm.Cond.soleField "java/lang/Throwable" "cause") ∈ lw_all := lw_g (lw_at lw_m2 31 rfl) rfl
theorem q409 : (Jvm.Cond.soleField "java/lang/Throwable" "stackTrace") ∈ lw_all := lw_g (lw_at lw_m2 32 rfl) rfl
theorem q411 : (Jvm.Cond.soleField "java/lang/Throwable" "depth") ∈ lw_all := lw_g (lw_at lw_m2 34 rfl) rfl
theorem q412 : (Jvm.Cond.soleField "java/lang/Throwable" "suppressedExceptions") ∈ lw_all := lw_g (lw_at lw_m2 35 rfl) rfl
theorem q1487 : (Jvm.Cond.instanceMethod ({ cls := "java/lang/Throwable", name := "<init>", desc := "(Ljava/lang/String;)V" } : Jvm.MethodName)) ∈ lw_all := lw_g (lw_at lw_m6 150 rfl) rfl
theorem q1488 : (Jvm.Cond.code ({ cls := "java/lang/Throwable", name := "<init>", desc := "(Ljava/lang/String;)V" } : Jvm.MethodName) prog_40_method_2_code (2 : Nat) (Option.none : Option Jvm.ClassFile.FieldType)) ∈ lw_all := lw_g (lw_at lw_m6 151 rfl) rfl
theorem q2719 : (Jvm.Cond.sameMethod "java/lang/Throwable" "java/lang/Throwable" "fillInStackTrace" "(I)Ljava/lang/Throwable;") ∈ lw_all := lw_g (lw_at lw_m11 182 rfl) rfl
theorem q2770 : (Jvm.Cond.castable "java/lang/Throwable" "java/lang/Object") ∈ lw_tbl := lw_at lw_m11 233 rfl
theorem in_J0 : ∀ w ∈ wsJ00, w ∈ lw_all := lw_in wsJ00 [356, 358, 360, 362, 364] (by decide +kernel) (by decide +kernel)

/-! java/lang/Exception -/
set_option maxRecDepth 100000
def RJ1 : String := "java/lang/Exception"
abbrev cJ1_init : ByteArray := prog_30_method_1_code
def yJ1_init : MethodName := ⟨RJ1, "<init>", "()V"⟩
theorem dJ1_init_0 : decode cJ1_init 0 = .ok (.aload_n 0, 1) := by decide +kernel
theorem dJ1_init_1 : decode cJ1_init 1 = .ok (.invokespecial 1, 3) := by decide +kernel
theorem dJ1_init_4 : decode cJ1_init 4 = .ok (.return_, 1) := by decide +kernel
abbrev cJ1_init_2 : ByteArray := prog_30_method_2_code
def yJ1_init_2 : MethodName := ⟨RJ1, "<init>", "(Ljava/lang/String;)V"⟩
def dkwJ1_init_2_0 : List UInt8 := [42, 43, 183, 0, 7, 177]
abbrev dktJ1_init_2_0 : List UInt8 := dkwJ1_init_2_0 ++ []
theorem dksJ1_init_2_0 : cJ1_init_2.data.toList.drop 0 = dktJ1_init_2_0 := by decide +kernel
theorem dJ1_init_2_0 : decode cJ1_init_2 0 = .ok (.aload_n 0, 1) := dk_42 (dk_at dksJ1_init_2_0 0 rfl rfl)
theorem dJ1_init_2_1 : decode cJ1_init_2 1 = .ok (.aload_n 1, 1) := dk_43 (dk_at dksJ1_init_2_0 1 rfl rfl)
theorem dJ1_init_2_2 : decode cJ1_init_2 2 = .ok (.invokespecial 7, 3) := dk_183 0 7 (dk_at dksJ1_init_2_0 2 rfl rfl)
theorem dJ1_init_2_5 : decode cJ1_init_2 5 = .ok (.return_, 1) := dk_177 (dk_at dksJ1_init_2_0 5 rfl rfl)
theorem q146 : (Jvm.Cond.initialized "java/lang/Exception") ∈ lw_all := lw_g (lw_at lw_m1 9 rfl) rfl
theorem q349 : (Jvm.Cond.declares ({ cls := "java/lang/Exception", name := "<init>", desc := "()V" } : Jvm.MethodName)) ∈ lw_tbl := lw_at lw_m1 212 rfl
theorem q350 : (Jvm.Cond.declares ({ cls := "java/lang/Exception", name := "<init>", desc := "(Ljava/lang/String;)V" } : Jvm.MethodName)) ∈ lw_tbl := lw_at lw_m1 213 rfl
theorem q395 : (Jvm.Cond.instanceMethod ({ cls := "java/lang/Exception", name := "<init>", desc := "()V" } : Jvm.MethodName)) ∈ lw_all := lw_g (lw_at lw_m2 18 rfl) rfl
theorem q396 : (Jvm.Cond.code ({ cls := "java/lang/Exception", name := "<init>", desc := "()V" } : Jvm.MethodName) prog_30_method_1_code (1 : Nat) (Option.none : Option Jvm.ClassFile.FieldType)) ∈ lw_all := lw_g (lw_at lw_m2 19 rfl) rfl
theorem q397 : (Jvm.Cond.methodLink "java/lang/Exception" (1 : Nat) ({ cls := "java/lang/Throwable", name := "<init>", desc := "()V" } : Jvm.MethodName)) ∈ lw_all := lw_g (lw_at lw_m2 20 rfl) rfl
theorem q1484 : (Jvm.Cond.instanceMethod ({ cls := "java/lang/Exception", name := "<init>", desc := "(Ljava/lang/String;)V" } : Jvm.MethodName)) ∈ lw_all := lw_g (lw_at lw_m6 147 rfl) rfl
theorem q1485 : (Jvm.Cond.code ({ cls := "java/lang/Exception", name := "<init>", desc := "(Ljava/lang/String;)V" } : Jvm.MethodName) prog_30_method_2_code (2 : Nat) (Option.none : Option Jvm.ClassFile.FieldType)) ∈ lw_all := lw_g (lw_at lw_m6 148 rfl) rfl
theorem q1486 : (Jvm.Cond.methodLink "java/lang/Exception" (7 : Nat) ({ cls := "java/lang/Throwable", name := "<init>", desc := "(Ljava/lang/String;)V" } : Jvm.MethodName)) ∈ lw_all := lw_g (lw_at lw_m6 149 rfl) rfl

/-! java/lang/RuntimeException -/
set_option maxRecDepth 100000
def RJ2 : String := "java/lang/RuntimeException"
abbrev cJ2_init : ByteArray := prog_37_method_1_code
def yJ2_init : MethodName := ⟨RJ2, "<init>", "()V"⟩
theorem dJ2_init_0 : decode cJ2_init 0 = .ok (.aload_n 0, 1) := by decide +kernel
theorem dJ2_init_1 : decode cJ2_init 1 = .ok (.invokespecial 1, 3) := by decide +kernel
theorem dJ2_init_4 : decode cJ2_init 4 = .ok (.return_, 1) := by decide +kernel
abbrev cJ2_init_2 : ByteArray := prog_37_method_2_code
def yJ2_init_2 : MethodName := ⟨RJ2, "<init>", "(Ljava/lang/String;)V"⟩
def dkwJ2_init_2_0 : List UInt8 := [42, 43, 183, 0, 7, 177]
abbrev dktJ2_init_2_0 : List UInt8 := dkwJ2_init_2_0 ++ []
theorem dksJ2_init_2_0 : cJ2_init_2.data.toList.drop 0 = dktJ2_init_2_0 := by decide +kernel
theorem dJ2_init_2_0 : decode cJ2_init_2 0 = .ok (.aload_n 0, 1) := dk_42 (dk_at dksJ2_init_2_0 0 rfl rfl)
theorem dJ2_init_2_1 : decode cJ2_init_2 1 = .ok (.aload_n 1, 1) := dk_43 (dk_at dksJ2_init_2_0 1 rfl rfl)
theorem dJ2_init_2_2 : decode cJ2_init_2 2 = .ok (.invokespecial 7, 3) := dk_183 0 7 (dk_at dksJ2_init_2_0 2 rfl rfl)
theorem dJ2_init_2_5 : decode cJ2_init_2 5 = .ok (.return_, 1) := dk_177 (dk_at dksJ2_init_2_0 5 rfl rfl)
theorem q147 : (Jvm.Cond.initialized "java/lang/RuntimeException") ∈ lw_all := lw_g (lw_at lw_m1 10 rfl) rfl
theorem q347 : (Jvm.Cond.declares ({ cls := "java/lang/RuntimeException", name := "<init>", desc := "()V" } : Jvm.MethodName)) ∈ lw_tbl := lw_at lw_m1 210 rfl
theorem q348 : (Jvm.Cond.declares ({ cls := "java/lang/RuntimeException", name := "<init>", desc := "(Ljava/lang/String;)V" } : Jvm.MethodName)) ∈ lw_tbl := lw_at lw_m1 211 rfl
theorem q392 : (Jvm.Cond.instanceMethod ({ cls := "java/lang/RuntimeException", name := "<init>", desc := "()V" } : Jvm.MethodName)) ∈ lw_all := lw_g (lw_at lw_m2 15 rfl) rfl
theorem q393 : (Jvm.Cond.code ({ cls := "java/lang/RuntimeException", name := "<init>", desc := "()V" } : Jvm.MethodName) prog_37_method_1_code (1 : Nat) (Option.none : Option Jvm.ClassFile.FieldType)) ∈ lw_all := lw_g (lw_at lw_m2 16 rfl) rfl
theorem q394 : (Jvm.Cond.methodLink "java/lang/RuntimeException" (1 : Nat) ({ cls := "java/lang/Exception", name := "<init>", desc := "()V" } : Jvm.MethodName)) ∈ lw_all := lw_g (lw_at lw_m2 17 rfl) rfl
theorem q1481 : (Jvm.Cond.instanceMethod ({ cls := "java/lang/RuntimeException", name := "<init>", desc := "(Ljava/lang/String;)V" } : Jvm.MethodName)) ∈ lw_all := lw_g (lw_at lw_m6 144 rfl) rfl
theorem q1482 : (Jvm.Cond.code ({ cls := "java/lang/RuntimeException", name := "<init>", desc := "(Ljava/lang/String;)V" } : Jvm.MethodName) prog_37_method_2_code (2 : Nat) (Option.none : Option Jvm.ClassFile.FieldType)) ∈ lw_all := lw_g (lw_at lw_m6 145 rfl) rfl
theorem q1483 : (Jvm.Cond.methodLink "java/lang/RuntimeException" (7 : Nat) ({ cls := "java/lang/Exception", name := "<init>", desc := "(Ljava/lang/String;)V" } : Jvm.MethodName)) ∈ lw_all := lw_g (lw_at lw_m6 146 rfl) rfl

/-! java/lang/Math -/
set_option maxRecDepth 100000
def RJ3 : String := "java/lang/Math"
abbrev cJ3_min : ByteArray := prog_35_method_69_code
def yJ3_min : MethodName := ⟨RJ3, "min", "(II)I"⟩
def dkwJ3_min_0 : List UInt8 := [26, 27, 163, 0, 7, 26, 167, 0, 4, 27, 172]
abbrev dktJ3_min_0 : List UInt8 := dkwJ3_min_0 ++ []
theorem dksJ3_min_0 : cJ3_min.data.toList.drop 0 = dktJ3_min_0 := by decide +kernel
theorem dJ3_min_0 : decode cJ3_min 0 = .ok (.iload_n 0, 1) := dk_26 (dk_at dksJ3_min_0 0 rfl rfl)
theorem dJ3_min_1 : decode cJ3_min 1 = .ok (.iload_n 1, 1) := dk_27 (dk_at dksJ3_min_0 1 rfl rfl)
theorem dJ3_min_2 : decode cJ3_min 2 = .ok (.if_icmp .gt 7, 3) := dk_163 0 7 (dk_at dksJ3_min_0 2 rfl rfl)
theorem dJ3_min_5 : decode cJ3_min 5 = .ok (.iload_n 0, 1) := dk_26 (dk_at dksJ3_min_0 5 rfl rfl)
theorem dJ3_min_6 : decode cJ3_min 6 = .ok (.goto 4, 3) := dk_167 0 4 (dk_at dksJ3_min_0 6 rfl rfl)
theorem dJ3_min_9 : decode cJ3_min 9 = .ok (.iload_n 1, 1) := dk_27 (dk_at dksJ3_min_0 9 rfl rfl)
theorem dJ3_min_10 : decode cJ3_min 10 = .ok (.ireturn, 1) := dk_172 (dk_at dksJ3_min_0 10 rfl rfl)
abbrev cJ3_max : ByteArray := prog_35_method_65_code
def yJ3_max : MethodName := ⟨RJ3, "max", "(II)I"⟩
def dkwJ3_max_0 : List UInt8 := [26, 27, 161, 0, 7, 26, 167, 0, 4, 27, 172]
abbrev dktJ3_max_0 : List UInt8 := dkwJ3_max_0 ++ []
theorem dksJ3_max_0 : cJ3_max.data.toList.drop 0 = dktJ3_max_0 := by decide +kernel
theorem dJ3_max_0 : decode cJ3_max 0 = .ok (.iload_n 0, 1) := dk_26 (dk_at dksJ3_max_0 0 rfl rfl)
theorem dJ3_max_1 : decode cJ3_max 1 = .ok (.iload_n 1, 1) := dk_27 (dk_at dksJ3_max_0 1 rfl rfl)
theorem dJ3_max_2 : decode cJ3_max 2 = .ok (.if_icmp .lt 7, 3) := dk_161 0 7 (dk_at dksJ3_max_0 2 rfl rfl)
theorem dJ3_max_5 : decode cJ3_max 5 = .ok (.iload_n 0, 1) := dk_26 (dk_at dksJ3_max_0 5 rfl rfl)
theorem dJ3_max_6 : decode cJ3_max 6 = .ok (.goto 4, 3) := dk_167 0 4 (dk_at dksJ3_max_0 6 rfl rfl)
theorem dJ3_max_9 : decode cJ3_max 9 = .ok (.iload_n 1, 1) := dk_27 (dk_at dksJ3_max_0 9 rfl rfl)
theorem dJ3_max_10 : decode cJ3_max 10 = .ok (.ireturn, 1) := dk_172 (dk_at dksJ3_max_0 10 rfl rfl)
theorem q151 : (Jvm.Cond.initialized "java/lang/Math") ∈ lw_all := lw_g (lw_at lw_m1 14 rfl) rfl
theorem q457 : (Jvm.Cond.static ({ cls := "java/lang/Math", name := "min", desc := "(II)I" } : Jvm.MethodName)) ∈ lw_all := lw_g (lw_at lw_m2 80 rfl) rfl
theorem q458 : (Jvm.Cond.code ({ cls := "java/lang/Math", name := "min", desc := "(II)I" } : Jvm.MethodName) prog_35_method_69_code (2 : Nat) (Option.some Jvm.ClassFile.FieldType.int)) ∈ lw_all := lw_g (lw_at lw_m2 81 rfl) rfl
theorem q2099 : (Jvm.Cond.static ({ cls := "java/lang/Math", name := "max", desc := "(II)I" } : Jvm.MethodName)) ∈ lw_all := lw_g (lw_at lw_m9 42 rfl) rfl
theorem q2100 : (Jvm.Cond.code ({ cls := "java/lang/Math", name := "max", desc := "(II)I" } : Jvm.MethodName) prog_35_method_65_code (2 : Nat) (Option.some Jvm.ClassFile.FieldType.int)) ∈ lw_all := lw_g (lw_at lw_m9 43 rfl) rfl

/-! java/util/AbstractMap -/
set_option maxRecDepth 100000
def RJ4 : String := "java/util/AbstractMap"
abbrev cJ4_init : ByteArray := prog_45_method_1_code
def yJ4_init : MethodName := ⟨RJ4, "<init>", "()V"⟩
theorem dJ4_init_0 : decode cJ4_init 0 = .ok (.aload_n 0, 1) := by decide +kernel
theorem dJ4_init_1 : decode cJ4_init 1 = .ok (.invokespecial 1, 3) := by decide +kernel
theorem dJ4_init_4 : decode cJ4_init 4 = .ok (.return_, 1) := by decide +kernel
theorem q153 : (Jvm.Cond.initialized "java/util/AbstractMap") ∈ lw_all := lw_g (lw_at lw_m1 16 rfl) rfl
theorem q511 : (Jvm.Cond.instanceMethod ({ cls := "java/util/AbstractMap", name := "<init>", desc := "()V" } : Jvm.MethodName)) ∈ lw_all := lw_g (lw_at lw_m2 134 rfl) rfl
theorem q512 : (Jvm.Cond.code ({ cls := "java/util/AbstractMap", name := "<init>", desc := "()V" } : Jvm.MethodName) prog_45_method_1_code (1 : Nat) (Option.none : Option Jvm.ClassFile.FieldType)) ∈ lw_all := lw_g (lw_at lw_m2 135 rfl) rfl
theorem q513 : (Jvm.Cond.methodLink "java/util/AbstractMap" (1 : Nat) ({ cls := "java/lang/Object", name := "<init>", desc := "()V" } : Jvm.MethodName)) ∈ lw_all := lw_g (lw_at lw_m2 136 rfl) rfl
theorem q557 : (Jvm.Cond.soleField "java/util/AbstractMap" "keySet") ∈ lw_all := lw_g (lw_at lw_m2 180 rfl) rfl
theorem q559 : (Jvm.Cond.soleField "java/util/AbstractMap" "values") ∈ lw_all := lw_g (lw_at lw_m2 182 rfl) rfl

/-! java/util/HashMap -/
set_option maxRecDepth 100000
def RJ5 : String := "java/util/HashMap"
def TJ5 : u_T := fun k => match k with
  | 0 => ("java/util/AbstractMap", "keySet", "Ljava/util/Set;", false)
  | 1 => ("java/util/AbstractMap", "values", "Ljava/util/Collection;", false)
  | 2 => ("java/util/HashMap", "table", "[Ljava/util/HashMap$Node;", false)
  | 3 => ("java/util/HashMap", "entrySet", "Ljava/util/Set;", false)
  | 4 => ("java/util/HashMap", "size", "I", false)
  | 5 => ("java/util/HashMap", "modCount", "I", false)
  | 6 => ("java/util/HashMap", "threshold", "I", false)
  | _ => ("java/util/HashMap", "loadFactor", "F", true)
def tyJ5 : Nat → FieldType := fun k => match k with
  | 0 => .object "java/util/Set"
  | 1 => .object "java/util/Collection"
  | 2 => .array (.object "java/util/HashMap$Node")
  | 3 => .object "java/util/Set"
  | 4 => .int
  | 5 => .int
  | 6 => .int
  | _ => .float
abbrev wsJ50 : List Cond := u_ws RJ5 TJ5 8
theorem nmJ5 : ∀ a, a < 8 → ∀ b, b < 8 → a ≠ b → (TJ5 a).2.1 ≠ (TJ5 b).2.1 := by decide +kernel
theorem tyJ5_ok : ∀ k, k < 8 → parseFieldDescriptor (TJ5 k).2.2.1 = some (tyJ5 k) := by decide +kernel
abbrev cJ5_init : ByteArray := prog_49_method_7_code
def yJ5_init : MethodName := ⟨RJ5, "<init>", "()V"⟩
def dkwJ5_init_0 : List UInt8 := [42, 183, 0, 43, 42, 18, 92, 181, 0, 81, 177]
abbrev dktJ5_init_0 : List UInt8 := dkwJ5_init_0 ++ []
theorem dksJ5_init_0 : cJ5_init.data.toList.drop 0 = dktJ5_init_0 := by decide +kernel
theorem dJ5_init_0 : decode cJ5_init 0 = .ok (.aload_n 0, 1) := dk_42 (dk_at dksJ5_init_0 0 rfl rfl)
theorem dJ5_init_1 : decode cJ5_init 1 = .ok (.invokespecial 43, 3) := dk_183 0 43 (dk_at dksJ5_init_0 1 rfl rfl)
theorem dJ5_init_4 : decode cJ5_init 4 = .ok (.aload_n 0, 1) := dk_42 (dk_at dksJ5_init_0 4 rfl rfl)
theorem dJ5_init_5 : decode cJ5_init 5 = .ok (.ldc 92, 2) := dk_18 92 (dk_at dksJ5_init_0 5 rfl rfl)
theorem dJ5_init_7 : decode cJ5_init 7 = .ok (.putfield 81, 3) := dk_181 0 81 (dk_at dksJ5_init_0 7 rfl rfl)
theorem dJ5_init_10 : decode cJ5_init 10 = .ok (.return_, 1) := dk_177 (dk_at dksJ5_init_0 10 rfl rfl)
abbrev cJ5_containsKey : ByteArray := prog_49_method_14_code
def yJ5_containsKey : MethodName := ⟨RJ5, "containsKey", "(Ljava/lang/Object;)Z"⟩
def dkwJ5_containsKey_0 : List UInt8 := [42, 43, 182, 0, 158, 198, 0, 7, 4, 167, 0, 4, 3, 172]
abbrev dktJ5_containsKey_0 : List UInt8 := dkwJ5_containsKey_0 ++ []
theorem dksJ5_containsKey_0 : cJ5_containsKey.data.toList.drop 0 = dktJ5_containsKey_0 := by decide +kernel
theorem dJ5_containsKey_0 : decode cJ5_containsKey 0 = .ok (.aload_n 0, 1) := dk_42 (dk_at dksJ5_containsKey_0 0 rfl rfl)
theorem dJ5_containsKey_1 : decode cJ5_containsKey 1 = .ok (.aload_n 1, 1) := dk_43 (dk_at dksJ5_containsKey_0 1 rfl rfl)
theorem dJ5_containsKey_2 : decode cJ5_containsKey 2 = .ok (.invokevirtual 158, 3) := dk_182 0 158 (dk_at dksJ5_containsKey_0 2 rfl rfl)
theorem dJ5_containsKey_5 : decode cJ5_containsKey 5 = .ok (.ifnull 7, 3) := dk_198 0 7 (dk_at dksJ5_containsKey_0 5 rfl rfl)
theorem dJ5_containsKey_8 : decode cJ5_containsKey 8 = .ok (.iconst 1, 1) := dk_4 (dk_at dksJ5_containsKey_0 8 rfl rfl)
theorem dJ5_containsKey_9 : decode cJ5_containsKey 9 = .ok (.goto 4, 3) := dk_167 0 4 (dk_at dksJ5_containsKey_0 9 rfl rfl)
theorem dJ5_containsKey_12 : decode cJ5_containsKey 12 = .ok (.iconst 0, 1) := dk_3 (dk_at dksJ5_containsKey_0 12 rfl rfl)
theorem dJ5_containsKey_13 : decode cJ5_containsKey 13 = .ok (.ireturn, 1) := dk_172 (dk_at dksJ5_containsKey_0 13 rfl rfl)
abbrev cJ5_getNode : ByteArray := prog_49_method_13_code
def yJ5_getNode : MethodName := ⟨RJ5, "getNode", "(Ljava/lang/Object;)Ljava/util/HashMap$Node;"⟩
def dkwJ5_getNode_6 : List UInt8 := [89, 58, 4, 199, 255, 210, 1, 176]
abbrev dktJ5_getNode_6 : List UInt8 := dkwJ5_getNode_6 ++ []
def dkwJ5_getNode_5 : List UInt8 := [165, 0, 16, 43, 198, 0, 15, 43, 25, 7, 182, 0, 173, 153, 0, 6, 25, 4, 176, 25, 4, 180, 0, 177]
abbrev dktJ5_getNode_5 : List UInt8 := dkwJ5_getNode_5 ++ dktJ5_getNode_6
def dkwJ5_getNode_4 : List UInt8 := [43, 182, 0, 182, 176, 25, 4, 180, 0, 168, 21, 6, 160, 0, 31, 25, 4, 180, 0, 170, 89, 58, 7, 43]
abbrev dktJ5_getNode_4 : List UInt8 := dkwJ5_getNode_4 ++ dktJ5_getNode_5
def dkwJ5_getNode_3 : List UInt8 := [176, 45, 180, 0, 177, 89, 58, 4, 198, 0, 70, 45, 193, 0, 180, 153, 0, 14, 45, 192, 0, 180, 21, 6]
abbrev dktJ5_getNode_3 : List UInt8 := dkwJ5_getNode_3 ++ dktJ5_getNode_4
def dkwJ5_getNode_2 : List UInt8 := [180, 0, 170, 89, 58, 7, 43, 165, 0, 16, 43, 198, 0, 14, 43, 25, 7, 182, 0, 173, 153, 0, 5, 45]
abbrev dktJ5_getNode_2 : List UInt8 := dkwJ5_getNode_2 ++ dktJ5_getNode_3
def dkwJ5_getNode_1 : List UInt8 := [184, 0, 149, 89, 54, 6, 126, 50, 89, 78, 198, 0, 115, 45, 180, 0, 168, 21, 6, 160, 0, 29, 45]
abbrev dktJ5_getNode_1 : List UInt8 := dkwJ5_getNode_1 ++ dktJ5_getNode_2
def dkwJ5_getNode_0 : List UInt8 := [42, 180, 0, 105, 89, 77, 198, 0, 142, 44, 190, 89, 54, 5, 158, 0, 134, 44, 21, 5, 4, 100, 43]
abbrev dktJ5_getNode_0 : List UInt8 := dkwJ5_getNode_0 ++ dktJ5_getNode_1
theorem dksJ5_getNode_0 : cJ5_getNode.data.toList.drop 0 = dktJ5_getNode_0 := by decide +kernel
theorem dksJ5_getNode_1 : cJ5_getNode.data.toList.drop 23 = dktJ5_getNode_1 := dk_seg dksJ5_getNode_0 23 rfl rfl
theorem dksJ5_getNode_2 : cJ5_getNode.data.toList.drop 46 = dktJ5_getNode_2 := dk_seg dksJ5_getNode_1 23 rfl rfl
theorem dksJ5_getNode_3 : cJ5_getNode.data.toList.drop 70 = dktJ5_getNode_3 := dk_seg dksJ5_getNode_2 24 rfl rfl
theorem dksJ5_getNode_4 : cJ5_getNode.data.toList.drop 94 = dktJ5_getNode_4 := dk_seg dksJ5_getNode_3 24 rfl rfl
theorem dksJ5_getNode_5 : cJ5_getNode.data.toList.drop 118 = dktJ5_getNode_5 := dk_seg dksJ5_getNode_4 24 rfl rfl
theorem dksJ5_getNode_6 : cJ5_getNode.data.toList.drop 142 = dktJ5_getNode_6 := dk_seg dksJ5_getNode_5 24 rfl rfl
theorem dJ5_getNode_0 : decode cJ5_getNode 0 = .ok (.aload_n 0, 1) := dk_42 (dk_at dksJ5_getNode_0 0 rfl rfl)
theorem dJ5_getNode_1 : decode cJ5_getNode 1 = .ok (.getfield 105, 3) := dk_180 0 105 (dk_at dksJ5_getNode_0 1 rfl rfl)
theorem dJ5_getNode_4 : decode cJ5_getNode 4 = .ok (.dup, 1) := dk_89 (dk_at dksJ5_getNode_0 4 rfl rfl)
theorem dJ5_getNode_5 : decode cJ5_getNode 5 = .ok (.astore_n 2, 1) := dk_77 (dk_at dksJ5_getNode_0 5 rfl rfl)
theorem dJ5_getNode_6 : decode cJ5_getNode 6 = .ok (.ifnull 142, 3) := dk_198 0 142 (dk_at dksJ5_getNode_0 6 rfl rfl)
theorem dJ5_getNode_9 : decode cJ5_getNode 9 = .ok (.aload_n 2, 1) := dk_44 (dk_at dksJ5_getNode_0 9 rfl rfl)
theorem dJ5_getNode_10 : decode cJ5_getNode 10 = .ok (.arraylength, 1) := dk_190 (dk_at dksJ5_getNode_0 10 rfl rfl)
theorem dJ5_getNode_11 : decode cJ5_getNode 11 = .ok (.dup, 1) := dk_89 (dk_at dksJ5_getNode_0 11 rfl rfl)
theorem dJ5_getNode_12 : decode cJ5_getNode 12 = .ok (.istore 5, 2) := dk_54 5 (dk_at dksJ5_getNode_0 12 rfl rfl)
theorem dJ5_getNode_14 : decode cJ5_getNode 14 = .ok (.ifCond .le 134, 3) := dk_158 0 134 (dk_at dksJ5_getNode_0 14 rfl rfl)
theorem dJ5_getNode_17 : decode cJ5_getNode 17 = .ok (.aload_n 2, 1) := dk_44 (dk_at dksJ5_getNode_0 17 rfl rfl)
theorem dJ5_getNode_18 : decode cJ5_getNode 18 = .ok (.iload 5, 2) := dk_21 5 (dk_at dksJ5_getNode_0 18 rfl rfl)
theorem dJ5_getNode_20 : decode cJ5_getNode 20 = .ok (.iconst 1, 1) := dk_4 (dk_at dksJ5_getNode_0 20 rfl rfl)
theorem dJ5_getNode_21 : decode cJ5_getNode 21 = .ok (.isub, 1) := dk_100 (dk_at dksJ5_getNode_0 21 rfl rfl)
theorem dJ5_getNode_22 : decode cJ5_getNode 22 = .ok (.aload_n 1, 1) := dk_43 (dk_at dksJ5_getNode_0 22 rfl rfl)
theorem dJ5_getNode_23 : decode cJ5_getNode 23 = .ok (.invokestatic 149, 3) := dk_184 0 149 (dk_at dksJ5_getNode_1 0 rfl rfl)
theorem dJ5_getNode_26 : decode cJ5_getNode 26 = .ok (.dup, 1) := dk_89 (dk_at dksJ5_getNode_1 3 rfl rfl)
theorem dJ5_getNode_27 : decode cJ5_getNode 27 = .ok (.istore 6, 2) := dk_54 6 (dk_at dksJ5_getNode_1 4 rfl rfl)
theorem dJ5_getNode_29 : decode cJ5_getNode 29 = .ok (.iand, 1) := dk_126 (dk_at dksJ5_getNode_1 6 rfl rfl)
theorem dJ5_getNode_30 : decode cJ5_getNode 30 = .ok (.aaload, 1) := dk_50 (dk_at dksJ5_getNode_1 7 rfl rfl)
theorem dJ5_getNode_31 : decode cJ5_getNode 31 = .ok (.dup, 1) := dk_89 (dk_at dksJ5_getNode_1 8 rfl rfl)
theorem dJ5_getNode_32 : decode cJ5_getNode 32 = .ok (.astore_n 3, 1) := dk_78 (dk_at dksJ5_getNode_1 9 rfl rfl)
theorem dJ5_getNode_33 : decode cJ5_getNode 33 = .ok (.ifnull 115, 3) := dk_198 0 115 (dk_at dksJ5_getNode_1 10 rfl rfl)
theorem dJ5_getNode_36 : decode cJ5_getNode 36 = .ok (.aload_n 3, 1) := dk_45 (dk_at dksJ5_getNode_1 13 rfl rfl)
theorem dJ5_getNode_37 : decode cJ5_getNode 37 = .ok (.getfield 168, 3) := dk_180 0 168 (dk_at dksJ5_getNode_1 14 rfl rfl)
theorem dJ5_getNode_40 : decode cJ5_getNode 40 = .ok (.iload 6, 2) := dk_21 6 (dk_at dksJ5_getNode_1 17 rfl rfl)
theorem dJ5_getNode_42 : decode cJ5_getNode 42 = .ok (.if_icmp .ne 29, 3) := dk_160 0 29 (dk_at dksJ5_getNode_1 19 rfl rfl)
theorem dJ5_getNode_45 : decode cJ5_getNode 45 = .ok (.aload_n 3, 1) := dk_45 (dk_at dksJ5_getNode_1 22 rfl rfl)
theorem dJ5_getNode_46 : decode cJ5_getNode 46 = .ok (.getfield 170, 3) := dk_180 0 170 (dk_at dksJ5_getNode_2 0 rfl rfl)
theorem dJ5_getNode_49 : decode cJ5_getNode 49 = .ok (.dup, 1) := dk_89 (dk_at dksJ5_getNode_2 3 rfl rfl)
theorem dJ5_getNode_50 : decode cJ5_getNode 50 = .ok (.astore 7, 2) := dk_58 7 (dk_at dksJ5_getNode_2 4 rfl rfl)
theorem dJ5_getNode_52 : decode cJ5_getNode 52 = .ok (.aload_n 1, 1) := dk_43 (dk_at dksJ5_getNode_2 6 rfl rfl)
theorem dJ5_getNode_53 : decode cJ5_getNode 53 = .ok (.if_acmp .eq 16, 3) := dk_165 0 16 (dk_at dksJ5_getNode_2 7 rfl rfl)
theorem dJ5_getNode_56 : decode cJ5_getNode 56 = .ok (.aload_n 1, 1) := dk_43 (dk_at dksJ5_getNode_2 10 rfl rfl)
theorem dJ5_getNode_57 : decode cJ5_getNode 57 = .ok (.ifnull 14, 3) := dk_198 0 14 (dk_at dksJ5_getNode_2 11 rfl rfl)
theorem dJ5_getNode_60 : decode cJ5_getNode 60 = .ok (.aload_n 1, 1) := dk_43 (dk_at dksJ5_getNode_2 14 rfl rfl)
theorem dJ5_getNode_61 : decode cJ5_getNode 61 = .ok (.aload 7, 2) := dk_25 7 (dk_at dksJ5_getNode_2 15 rfl rfl)
theorem dJ5_getNode_63 : decode cJ5_getNode 63 = .ok (.invokevirtual 173, 3) := dk_182 0 173 (dk_at dksJ5_getNode_2 17 rfl rfl)
theorem dJ5_getNode_66 : decode cJ5_getNode 66 = .ok (.ifCond .eq 5, 3) := dk_153 0 5 (dk_at dksJ5_getNode_2 20 rfl rfl)
theorem dJ5_getNode_69 : decode cJ5_getNode 69 = .ok (.aload_n 3, 1) := dk_45 (dk_at dksJ5_getNode_2 23 rfl rfl)
theorem dJ5_getNode_70 : decode cJ5_getNode 70 = .ok (.areturn, 1) := dk_176 (dk_at dksJ5_getNode_3 0 rfl rfl)
theorem dJ5_getNode_71 : decode cJ5_getNode 71 = .ok (.aload_n 3, 1) := dk_45 (dk_at dksJ5_getNode_3 1 rfl rfl)
theorem dJ5_getNode_72 : decode cJ5_getNode 72 = .ok (.getfield 177, 3) := dk_180 0 177 (dk_at dksJ5_getNode_3 2 rfl rfl)
theorem dJ5_getNode_75 : decode cJ5_getNode 75 = .ok (.dup, 1) := dk_89 (dk_at dksJ5_getNode_3 5 rfl rfl)
theorem dJ5_getNode_76 : decode cJ5_getNode 76 = .ok (.astore 4, 2) := dk_58 4 (dk_at dksJ5_getNode_3 6 rfl rfl)
theorem dJ5_getNode_78 : decode cJ5_getNode 78 = .ok (.ifnull 70, 3) := dk_198 0 70 (dk_at dksJ5_getNode_3 8 rfl rfl)
theorem dJ5_getNode_81 : decode cJ5_getNode 81 = .ok (.aload_n 3, 1) := dk_45 (dk_at dksJ5_getNode_3 11 rfl rfl)
theorem dJ5_getNode_82 : decode cJ5_getNode 82 = .ok (.instanceof 180, 3) := dk_193 0 180 (dk_at dksJ5_getNode_3 12 rfl rfl)
theorem dJ5_getNode_85 : decode cJ5_getNode 85 = .ok (.ifCond .eq 14, 3) := dk_153 0 14 (dk_at dksJ5_getNode_3 15 rfl rfl)
theorem dJ5_getNode_88 : decode cJ5_getNode 88 = .ok (.aload_n 3, 1) := dk_45 (dk_at dksJ5_getNode_3 18 rfl rfl)
theorem dJ5_getNode_89 : decode cJ5_getNode 89 = .ok (.checkcast 180, 3) := dk_192 0 180 (dk_at dksJ5_getNode_3 19 rfl rfl)
theorem dJ5_getNode_92 : decode cJ5_getNode 92 = .ok (.iload 6, 2) := dk_21 6 (dk_at dksJ5_getNode_3 22 rfl rfl)
theorem dJ5_getNode_94 : decode cJ5_getNode 94 = .ok (.aload_n 1, 1) := dk_43 (dk_at dksJ5_getNode_4 0 rfl rfl)
theorem dJ5_getNode_95 : decode cJ5_getNode 95 = .ok (.invokevirtual 182, 3) := dk_182 0 182 (dk_at dksJ5_getNode_4 1 rfl rfl)
theorem dJ5_getNode_98 : decode cJ5_getNode 98 = .ok (.areturn, 1) := dk_176 (dk_at dksJ5_getNode_4 4 rfl rfl)
theorem dJ5_getNode_99 : decode cJ5_getNode 99 = .ok (.aload 4, 2) := dk_25 4 (dk_at dksJ5_getNode_4 5 rfl rfl)
theorem dJ5_getNode_101 : decode cJ5_getNode 101 = .ok (.getfield 168, 3) := dk_180 0 168 (dk_at dksJ5_getNode_4 7 rfl rfl)
theorem dJ5_getNode_104 : decode cJ5_getNode 104 = .ok (.iload 6, 2) := dk_21 6 (dk_at dksJ5_getNode_4 10 rfl rfl)
theorem dJ5_getNode_106 : decode cJ5_getNode 106 = .ok (.if_icmp .ne 31, 3) := dk_160 0 31 (dk_at dksJ5_getNode_4 12 rfl rfl)
theorem dJ5_getNode_109 : decode cJ5_getNode 109 = .ok (.aload 4, 2) := dk_25 4 (dk_at dksJ5_getNode_4 15 rfl rfl)
theorem dJ5_getNode_111 : decode cJ5_getNode 111 = .ok (.getfield 170, 3) := dk_180 0 170 (dk_at dksJ5_getNode_4 17 rfl rfl)
theorem dJ5_getNode_114 : decode cJ5_getNode 114 = .ok (.dup, 1) := dk_89 (dk_at dksJ5_getNode_4 20 rfl rfl)
theorem dJ5_getNode_115 : decode cJ5_getNode 115 = .ok (.astore 7, 2) := dk_58 7 (dk_at dksJ5_getNode_4 21 rfl rfl)
theorem dJ5_getNode_117 : decode cJ5_getNode 117 = .ok (.aload_n 1, 1) := dk_43 (dk_at dksJ5_getNode_4 23 rfl rfl)
theorem dJ5_getNode_118 : decode cJ5_getNode 118 = .ok (.if_acmp .eq 16, 3) := dk_165 0 16 (dk_at dksJ5_getNode_5 0 rfl rfl)
theorem dJ5_getNode_121 : decode cJ5_getNode 121 = .ok (.aload_n 1, 1) := dk_43 (dk_at dksJ5_getNode_5 3 rfl rfl)
theorem dJ5_getNode_122 : decode cJ5_getNode 122 = .ok (.ifnull 15, 3) := dk_198 0 15 (dk_at dksJ5_getNode_5 4 rfl rfl)
theorem dJ5_getNode_125 : decode cJ5_getNode 125 = .ok (.aload_n 1, 1) := dk_43 (dk_at dksJ5_getNode_5 7 rfl rfl)
theorem dJ5_getNode_126 : decode cJ5_getNode 126 = .ok (.aload 7, 2) := dk_25 7 (dk_at dksJ5_getNode_5 8 rfl rfl)
theorem dJ5_getNode_128 : decode cJ5_getNode 128 = .ok (.invokevirtual 173, 3) := dk_182 0 173 (dk_at dksJ5_getNode_5 10 rfl rfl)
theorem dJ5_getNode_131 : decode cJ5_getNode 131 = .ok (.ifCond .eq 6, 3) := dk_153 0 6 (dk_at dksJ5_getNode_5 13 rfl rfl)
theorem dJ5_getNode_134 : decode cJ5_getNode 134 = .ok (.aload 4, 2) := dk_25 4 (dk_at dksJ5_getNode_5 16 rfl rfl)
theorem dJ5_getNode_136 : decode cJ5_getNode 136 = .ok (.areturn, 1) := dk_176 (dk_at dksJ5_getNode_5 18 rfl rfl)
theorem dJ5_getNode_137 : decode cJ5_getNode 137 = .ok (.aload 4, 2) := dk_25 4 (dk_at dksJ5_getNode_5 19 rfl rfl)
theorem dJ5_getNode_139 : decode cJ5_getNode 139 = .ok (.getfield 177, 3) := dk_180 0 177 (dk_at dksJ5_getNode_5 21 rfl rfl)
theorem dJ5_getNode_142 : decode cJ5_getNode 142 = .ok (.dup, 1) := dk_89 (dk_at dksJ5_getNode_6 0 rfl rfl)
theorem dJ5_getNode_143 : decode cJ5_getNode 143 = .ok (.astore 4, 2) := dk_58 4 (dk_at dksJ5_getNode_6 1 rfl rfl)
theorem dJ5_getNode_145 : decode cJ5_getNode 145 = .ok (.ifnonnull (-46), 3) := dk_199 255 210 (dk_at dksJ5_getNode_6 3 rfl rfl)
theorem dJ5_getNode_148 : decode cJ5_getNode 148 = .ok (.aconst_null, 1) := dk_1 (dk_at dksJ5_getNode_6 6 rfl rfl)
theorem dJ5_getNode_149 : decode cJ5_getNode 149 = .ok (.areturn, 1) := dk_176 (dk_at dksJ5_getNode_6 7 rfl rfl)
abbrev cJ5_hash : ByteArray := prog_49_method_1_code
def yJ5_hash : MethodName := ⟨RJ5, "hash", "(Ljava/lang/Object;)I"⟩
def dkwJ5_hash_0 : List UInt8 := [42, 199, 0, 7, 3, 167, 0, 14, 42, 182, 0, 1, 89, 60, 27, 16, 16, 124, 130, 172]
abbrev dktJ5_hash_0 : List UInt8 := dkwJ5_hash_0 ++ []
theorem dksJ5_hash_0 : cJ5_hash.data.toList.drop 0 = dktJ5_hash_0 := by decide +kernel
theorem dJ5_hash_0 : decode cJ5_hash 0 = .ok (.aload_n 0, 1) := dk_42 (dk_at dksJ5_hash_0 0 rfl rfl)
theorem dJ5_hash_1 : decode cJ5_hash 1 = .ok (.ifnonnull 7, 3) := dk_199 0 7 (dk_at dksJ5_hash_0 1 rfl rfl)
theorem dJ5_hash_4 : decode cJ5_hash 4 = .ok (.iconst 0, 1) := dk_3 (dk_at dksJ5_hash_0 4 rfl rfl)
theorem dJ5_hash_5 : decode cJ5_hash 5 = .ok (.goto 14, 3) := dk_167 0 14 (dk_at dksJ5_hash_0 5 rfl rfl)
theorem dJ5_hash_8 : decode cJ5_hash 8 = .ok (.aload_n 0, 1) := dk_42 (dk_at dksJ5_hash_0 8 rfl rfl)
theorem dJ5_hash_9 : decode cJ5_hash 9 = .ok (.invokevirtual 1, 3) := dk_182 0 1 (dk_at dksJ5_hash_0 9 rfl rfl)
theorem dJ5_hash_12 : decode cJ5_hash 12 = .ok (.dup, 1) := dk_89 (dk_at dksJ5_hash_0 12 rfl rfl)
theorem dJ5_hash_13 : decode cJ5_hash 13 = .ok (.istore_n 1, 1) := dk_60 (dk_at dksJ5_hash_0 13 rfl rfl)
theorem dJ5_hash_14 : decode cJ5_hash 14 = .ok (.iload_n 1, 1) := dk_27 (dk_at dksJ5_hash_0 14 rfl rfl)
theorem dJ5_hash_15 : decode cJ5_hash 15 = .ok (.bipush 16, 2) := dk_16 16 (dk_at dksJ5_hash_0 15 rfl rfl)
theorem dJ5_hash_17 : decode cJ5_hash 17 = .ok (.iushr, 1) := dk_124 (dk_at dksJ5_hash_0 17 rfl rfl)
theorem dJ5_hash_18 : decode cJ5_hash 18 = .ok (.ixor, 1) := dk_130 (dk_at dksJ5_hash_0 18 rfl rfl)
theorem dJ5_hash_19 : decode cJ5_hash 19 = .ok (.ireturn, 1) := dk_172 (dk_at dksJ5_hash_0 19 rfl rfl)
abbrev cJ5_size : ByteArray := prog_49_method_10_code
def yJ5_size : MethodName := ⟨RJ5, "size", "()I"⟩
theorem dJ5_size_0 : decode cJ5_size 0 = .ok (.aload_n 0, 1) := by decide +kernel
theorem dJ5_size_1 : decode cJ5_size 1 = .ok (.getfield 156, 3) := by decide +kernel
theorem dJ5_size_4 : decode cJ5_size 4 = .ok (.ireturn, 1) := by decide +kernel
abbrev cJ5_comparableClassFor : ByteArray := prog_49_method_2_code
def yJ5_comparableClassFor : MethodName := ⟨RJ5, "comparableClassFor", "(Ljava/lang/Object;)Ljava/lang/Class;"⟩
def dkwJ5_comparableClassFor_4 : List UInt8 := [4, 160, 0, 12, 45, 3, 50, 43, 166, 0, 5, 43, 176, 132, 7, 1, 167, 255, 186, 1, 176]
abbrev dktJ5_comparableClassFor_4 : List UInt8 := dkwJ5_comparableClassFor_4 ++ []
def dkwJ5_comparableClassFor_3 : List UInt8 := [185, 0, 23, 1, 0, 18, 7, 166, 0, 30, 25, 4, 185, 0, 27, 1, 0, 89, 78, 198, 0, 18, 45, 190]
abbrev dktJ5_comparableClassFor_3 : List UInt8 := dkwJ5_comparableClassFor_3 ++ dktJ5_comparableClassFor_4
def dkwJ5_comparableClassFor_2 : List UInt8 := [25, 5, 21, 7, 50, 58, 8, 25, 8, 193, 0, 21, 153, 0, 48, 25, 8, 192, 0, 21, 89, 58, 4]
abbrev dktJ5_comparableClassFor_2 : List UInt8 := dkwJ5_comparableClassFor_2 ++ dktJ5_comparableClassFor_3
def dkwJ5_comparableClassFor_1 : List UInt8 := [89, 77, 198, 0, 87, 44, 58, 5, 25, 5, 190, 54, 6, 3, 54, 7, 21, 7, 21, 6, 162, 0, 69]
abbrev dktJ5_comparableClassFor_1 : List UInt8 := dkwJ5_comparableClassFor_1 ++ dktJ5_comparableClassFor_2
def dkwJ5_comparableClassFor_0 : List UInt8 := [42, 193, 0, 7, 153, 0, 109, 42, 182, 0, 9, 89, 76, 18, 13, 166, 0, 5, 43, 176, 43, 182, 0, 15]
abbrev dktJ5_comparableClassFor_0 : List UInt8 := dkwJ5_comparableClassFor_0 ++ dktJ5_comparableClassFor_1
theorem dksJ5_comparableClassFor_0 : cJ5_comparableClassFor.data.toList.drop 0 = dktJ5_comparableClassFor_0 := by decide +kernel
theorem dksJ5_comparableClassFor_1 : cJ5_comparableClassFor.data.toList.drop 24 = dktJ5_comparableClassFor_1 := dk_seg dksJ5_comparableClassFor_0 24 rfl rfl
theorem dksJ5_comparableClassFor_2 : cJ5_comparableClassFor.data.toList.drop 47 = dktJ5_comparableClassFor_2 := dk_seg dksJ5_comparableClassFor_1 23 rfl rfl
theorem dksJ5_comparableClassFor_3 : cJ5_comparableClassFor.data.toList.drop 70 = dktJ5_comparableClassFor_3 := dk_seg dksJ5_comparableClassFor_2 23 rfl rfl
theorem dksJ5_comparableClassFor_4 : cJ5_comparableClassFor.data.toList.drop 94 = dktJ5_comparableClassFor_4 := dk_seg dksJ5_comparableClassFor_3 24 rfl rfl
theorem dJ5_comparableClassFor_0 : decode cJ5_comparableClassFor 0 = .ok (.aload_n 0, 1) := dk_42 (dk_at dksJ5_comparableClassFor_0 0 rfl rfl)
theorem dJ5_comparableClassFor_1 : decode cJ5_comparableClassFor 1 = .ok (.instanceof 7, 3) := dk_193 0 7 (dk_at dksJ5_comparableClassFor_0 1 rfl rfl)
theorem dJ5_comparableClassFor_4 : decode cJ5_comparableClassFor 4 = .ok (.ifCond .eq 109, 3) := dk_153 0 109 (dk_at dksJ5_comparableClassFor_0 4 rfl rfl)
theorem dJ5_comparableClassFor_7 : decode cJ5_comparableClassFor 7 = .ok (.aload_n 0, 1) := dk_42 (dk_at dksJ5_comparableClassFor_0 7 rfl rfl)
theorem dJ5_comparableClassFor_8 : decode cJ5_comparableClassFor 8 = .ok (.invokevirtual 9, 3) := dk_182 0 9 (dk_at dksJ5_comparableClassFor_0 8 rfl rfl)
theorem dJ5_comparableClassFor_11 : decode cJ5_comparableClassFor 11 = .ok (.dup, 1) := dk_89 (dk_at dksJ5_comparableClassFor_0 11 rfl rfl)
theorem dJ5_comparableClassFor_12 : decode cJ5_comparableClassFor 12 = .ok (.astore_n 1, 1) := dk_76 (dk_at dksJ5_comparableClassFor_0 12 rfl rfl)
theorem dJ5_comparableClassFor_13 : decode cJ5_comparableClassFor 13 = .ok (.ldc 13, 2) := dk_18 13 (dk_at dksJ5_comparableClassFor_0 13 rfl rfl)
theorem dJ5_comparableClassFor_15 : decode cJ5_comparableClassFor 15 = .ok (.if_acmp .ne 5, 3) := dk_166 0 5 (dk_at dksJ5_comparableClassFor_0 15 rfl rfl)
theorem dJ5_comparableClassFor_18 : decode cJ5_comparableClassFor 18 = .ok (.aload_n 1, 1) := dk_43 (dk_at dksJ5_comparableClassFor_0 18 rfl rfl)
theorem dJ5_comparableClassFor_19 : decode cJ5_comparableClassFor 19 = .ok (.areturn, 1) := dk_176 (dk_at dksJ5_comparableClassFor_0 19 rfl rfl)
theorem dJ5_comparableClassFor_20 : decode cJ5_comparableClassFor 20 = .ok (.aload_n 1, 1) := dk_43 (dk_at dksJ5_comparableClassFor_0 20 rfl rfl)
theorem dJ5_comparableClassFor_21 : decode cJ5_comparableClassFor 21 = .ok (.invokevirtual 15, 3) := dk_182 0 15 (dk_at dksJ5_comparableClassFor_0 21 rfl rfl)
theorem dJ5_comparableClassFor_24 : decode cJ5_comparableClassFor 24 = .ok (.dup, 1) := dk_89 (dk_at dksJ5_comparableClassFor_1 0 rfl rfl)
theorem dJ5_comparableClassFor_25 : decode cJ5_comparableClassFor 25 = .ok (.astore_n 2, 1) := dk_77 (dk_at dksJ5_comparableClassFor_1 1 rfl rfl)
theorem dJ5_comparableClassFor_26 : decode cJ5_comparableClassFor 26 = .ok (.ifnull 87, 3) := dk_198 0 87 (dk_at dksJ5_comparableClassFor_1 2 rfl rfl)
theorem dJ5_comparableClassFor_29 : decode cJ5_comparableClassFor 29 = .ok (.aload_n 2, 1) := dk_44 (dk_at dksJ5_comparableClassFor_1 5 rfl rfl)
theorem dJ5_comparableClassFor_30 : decode cJ5_comparableClassFor 30 = .ok (.astore 5, 2) := dk_58 5 (dk_at dksJ5_comparableClassFor_1 6 rfl rfl)
theorem dJ5_comparableClassFor_32 : decode cJ5_comparableClassFor 32 = .ok (.aload 5, 2) := dk_25 5 (dk_at dksJ5_comparableClassFor_1 8 rfl rfl)
theorem dJ5_comparableClassFor_34 : decode cJ5_comparableClassFor 34 = .ok (.arraylength, 1) := dk_190 (dk_at dksJ5_comparableClassFor_1 10 rfl rfl)
theorem dJ5_comparableClassFor_35 : decode cJ5_comparableClassFor 35 = .ok (.istore 6, 2) := dk_54 6 (dk_at dksJ5_comparableClassFor_1 11 rfl rfl)
theorem dJ5_comparableClassFor_37 : decode cJ5_comparableClassFor 37 = .ok (.iconst 0, 1) := dk_3 (dk_at dksJ5_comparableClassFor_1 13 rfl rfl)
theorem dJ5_comparableClassFor_38 : decode cJ5_comparableClassFor 38 = .ok (.istore 7, 2) := dk_54 7 (dk_at dksJ5_comparableClassFor_1 14 rfl rfl)
theorem dJ5_comparableClassFor_40 : decode cJ5_comparableClassFor 40 = .ok (.iload 7, 2) := dk_21 7 (dk_at dksJ5_comparableClassFor_1 16 rfl rfl)
theorem dJ5_comparableClassFor_42 : decode cJ5_comparableClassFor 42 = .ok (.iload 6, 2) := dk_21 6 (dk_at dksJ5_comparableClassFor_1 18 rfl rfl)
theorem dJ5_comparableClassFor_44 : decode cJ5_comparableClassFor 44 = .ok (.if_icmp .ge 69, 3) := dk_162 0 69 (dk_at dksJ5_comparableClassFor_1 20 rfl rfl)
theorem dJ5_comparableClassFor_47 : decode cJ5_comparableClassFor 47 = .ok (.aload 5, 2) := dk_25 5 (dk_at dksJ5_comparableClassFor_2 0 rfl rfl)
theorem dJ5_comparableClassFor_49 : decode cJ5_comparableClassFor 49 = .ok (.iload 7, 2) := dk_21 7 (dk_at dksJ5_comparableClassFor_2 2 rfl rfl)
theorem dJ5_comparableClassFor_51 : decode cJ5_comparableClassFor 51 = .ok (.aaload, 1) := dk_50 (dk_at dksJ5_comparableClassFor_2 4 rfl rfl)
theorem dJ5_comparableClassFor_52 : decode cJ5_comparableClassFor 52 = .ok (.astore 8, 2) := dk_58 8 (dk_at dksJ5_comparableClassFor_2 5 rfl rfl)
theorem dJ5_comparableClassFor_54 : decode cJ5_comparableClassFor 54 = .ok (.aload 8, 2) := dk_25 8 (dk_at dksJ5_comparableClassFor_2 7 rfl rfl)
theorem dJ5_comparableClassFor_56 : decode cJ5_comparableClassFor 56 = .ok (.instanceof 21, 3) := dk_193 0 21 (dk_at dksJ5_comparableClassFor_2 9 rfl rfl)
theorem dJ5_comparableClassFor_59 : decode cJ5_comparableClassFor 59 = .ok (.ifCond .eq 48, 3) := dk_153 0 48 (dk_at dksJ5_comparableClassFor_2 12 rfl rfl)
theorem dJ5_comparableClassFor_62 : decode cJ5_comparableClassFor 62 = .ok (.aload 8, 2) := dk_25 8 (dk_at dksJ5_comparableClassFor_2 15 rfl rfl)
theorem dJ5_comparableClassFor_64 : decode cJ5_comparableClassFor 64 = .ok (.checkcast 21, 3) := dk_192 0 21 (dk_at dksJ5_comparableClassFor_2 17 rfl rfl)
theorem dJ5_comparableClassFor_67 : decode cJ5_comparableClassFor 67 = .ok (.dup, 1) := dk_89 (dk_at dksJ5_comparableClassFor_2 20 rfl rfl)
theorem dJ5_comparableClassFor_68 : decode cJ5_comparableClassFor 68 = .ok (.astore 4, 2) := dk_58 4 (dk_at dksJ5_comparableClassFor_2 21 rfl rfl)
theorem dJ5_comparableClassFor_70 : decode cJ5_comparableClassFor 70 = .ok (.invokeinterface 23 1, 5) := by decide +kernel
theorem dJ5_comparableClassFor_75 : decode cJ5_comparableClassFor 75 = .ok (.ldc 7, 2) := dk_18 7 (dk_at dksJ5_comparableClassFor_3 5 rfl rfl)
theorem dJ5_comparableClassFor_77 : decode cJ5_comparableClassFor 77 = .ok (.if_acmp .ne 30, 3) := dk_166 0 30 (dk_at dksJ5_comparableClassFor_3 7 rfl rfl)
theorem dJ5_comparableClassFor_80 : decode cJ5_comparableClassFor 80 = .ok (.aload 4, 2) := dk_25 4 (dk_at dksJ5_comparableClassFor_3 10 rfl rfl)
theorem dJ5_comparableClassFor_82 : decode cJ5_comparableClassFor 82 = .ok (.invokeinterface 27 1, 5) := by decide +kernel
theorem dJ5_comparableClassFor_87 : decode cJ5_comparableClassFor 87 = .ok (.dup, 1) := dk_89 (dk_at dksJ5_comparableClassFor_3 17 rfl rfl)
theorem dJ5_comparableClassFor_88 : decode cJ5_comparableClassFor 88 = .ok (.astore_n 3, 1) := dk_78 (dk_at dksJ5_comparableClassFor_3 18 rfl rfl)
theorem dJ5_comparableClassFor_89 : decode cJ5_comparableClassFor 89 = .ok (.ifnull 18, 3) := dk_198 0 18 (dk_at dksJ5_comparableClassFor_3 19 rfl rfl)
theorem dJ5_comparableClassFor_92 : decode cJ5_comparableClassFor 92 = .ok (.aload_n 3, 1) := dk_45 (dk_at dksJ5_comparableClassFor_3 22 rfl rfl)
theorem dJ5_comparableClassFor_93 : decode cJ5_comparableClassFor 93 = .ok (.arraylength, 1) := dk_190 (dk_at dksJ5_comparableClassFor_3 23 rfl rfl)
theorem dJ5_comparableClassFor_94 : decode cJ5_comparableClassFor 94 = .ok (.iconst 1, 1) := dk_4 (dk_at dksJ5_comparableClassFor_4 0 rfl rfl)
theorem dJ5_comparableClassFor_95 : decode cJ5_comparableClassFor 95 = .ok (.if_icmp .ne 12, 3) := dk_160 0 12 (dk_at dksJ5_comparableClassFor_4 1 rfl rfl)
theorem dJ5_comparableClassFor_98 : decode cJ5_comparableClassFor 98 = .ok (.aload_n 3, 1) := dk_45 (dk_at dksJ5_comparableClassFor_4 4 rfl rfl)
theorem dJ5_comparableClassFor_99 : decode cJ5_comparableClassFor 99 = .ok (.iconst 0, 1) := dk_3 (dk_at dksJ5_comparableClassFor_4 5 rfl rfl)
theorem dJ5_comparableClassFor_100 : decode cJ5_comparableClassFor 100 = .ok (.aaload, 1) := dk_50 (dk_at dksJ5_comparableClassFor_4 6 rfl rfl)
theorem dJ5_comparableClassFor_101 : decode cJ5_comparableClassFor 101 = .ok (.aload_n 1, 1) := dk_43 (dk_at dksJ5_comparableClassFor_4 7 rfl rfl)
theorem dJ5_comparableClassFor_102 : decode cJ5_comparableClassFor 102 = .ok (.if_acmp .ne 5, 3) := dk_166 0 5 (dk_at dksJ5_comparableClassFor_4 8 rfl rfl)
theorem dJ5_comparableClassFor_105 : decode cJ5_comparableClassFor 105 = .ok (.aload_n 1, 1) := dk_43 (dk_at dksJ5_comparableClassFor_4 11 rfl rfl)
theorem dJ5_comparableClassFor_106 : decode cJ5_comparableClassFor 106 = .ok (.areturn, 1) := dk_176 (dk_at dksJ5_comparableClassFor_4 12 rfl rfl)
theorem dJ5_comparableClassFor_107 : decode cJ5_comparableClassFor 107 = .ok (.iinc 7 1, 3) := dk_132 7 1 (dk_at dksJ5_comparableClassFor_4 13 rfl rfl)
theorem dJ5_comparableClassFor_110 : decode cJ5_comparableClassFor 110 = .ok (.goto (-70), 3) := dk_167 255 186 (dk_at dksJ5_comparableClassFor_4 16 rfl rfl)
theorem dJ5_comparableClassFor_113 : decode cJ5_comparableClassFor 113 = .ok (.aconst_null, 1) := dk_1 (dk_at dksJ5_comparableClassFor_4 19 rfl rfl)
theorem dJ5_comparableClassFor_114 : decode cJ5_comparableClassFor 114 = .ok (.areturn, 1) := dk_176 (dk_at dksJ5_comparableClassFor_4 20 rfl rfl)
abbrev cJ5_compareComparables : ByteArray := prog_49_method_3_code
def yJ5_compareComparables : MethodName := ⟨RJ5, "compareComparables", "(Ljava/lang/Class;Ljava/lang/Object;Ljava/lang/Object;)I"⟩
def dkwJ5_compareComparables_1 : List UInt8 := [185, 0, 30, 2, 0, 172]
abbrev dktJ5_compareComparables_1 : List UInt8 := dkwJ5_compareComparables_1 ++ []
def dkwJ5_compareComparables_0 : List UInt8 := [44, 198, 0, 11, 44, 182, 0, 9, 42, 165, 0, 7, 3, 167, 0, 13, 43, 192, 0, 7, 44]
abbrev dktJ5_compareComparables_0 : List UInt8 := dkwJ5_compareComparables_0 ++ dktJ5_compareComparables_1
theorem dksJ5_compareComparables_0 : cJ5_compareComparables.data.toList.drop 0 = dktJ5_compareComparables_0 := by decide +kernel
theorem dksJ5_compareComparables_1 : cJ5_compareComparables.data.toList.drop 21 = dktJ5_compareComparables_1 := dk_seg dksJ5_compareComparables_0 21 rfl rfl
theorem dJ5_compareComparables_0 : decode cJ5_compareComparables 0 = .ok (.aload_n 2, 1) := dk_44 (dk_at dksJ5_compareComparables_0 0 rfl rfl)
theorem dJ5_compareComparables_1 : decode cJ5_compareComparables 1 = .ok (.ifnull 11, 3) := dk_198 0 11 (dk_at dksJ5_compareComparables_0 1 rfl rfl)
theorem dJ5_compareComparables_4 : decode cJ5_compareComparables 4 = .ok (.aload_n 2, 1) := dk_44 (dk_at dksJ5_compareComparables_0 4 rfl rfl)
theorem dJ5_compareComparables_5 : decode cJ5_compareComparables 5 = .ok (.invokevirtual 9, 3) := dk_182 0 9 (dk_at dksJ5_compareComparables_0 5 rfl rfl)
theorem dJ5_compareComparables_8 : decode cJ5_compareComparables 8 = .ok (.aload_n 0, 1) := dk_42 (dk_at dksJ5_compareComparables_0 8 rfl rfl)
theorem dJ5_compareComparables_9 : decode cJ5_compareComparables 9 = .ok (.if_acmp .eq 7, 3) := dk_165 0 7 (dk_at dksJ5_compareComparables_0 9 rfl rfl)
theorem dJ5_compareComparables_12 : decode cJ5_compareComparables 12 = .ok (.iconst 0, 1) := dk_3 (dk_at dksJ5_compareComparables_0 12 rfl rfl)
theorem dJ5_compareComparables_13 : decode cJ5_compareComparables 13 = .ok (.goto 13, 3) := dk_167 0 13 (dk_at dksJ5_compareComparables_0 13 rfl rfl)
theorem dJ5_compareComparables_16 : decode cJ5_compareComparables 16 = .ok (.aload_n 1, 1) := dk_43 (dk_at dksJ5_compareComparables_0 16 rfl rfl)
theorem dJ5_compareComparables_17 : decode cJ5_compareComparables 17 = .ok (.checkcast 7, 3) := dk_192 0 7 (dk_at dksJ5_compareComparables_0 17 rfl rfl)
theorem dJ5_compareComparables_20 : decode cJ5_compareComparables 20 = .ok (.aload_n 2, 1) := dk_44 (dk_at dksJ5_compareComparables_0 20 rfl rfl)
theorem dJ5_compareComparables_21 : decode cJ5_compareComparables 21 = .ok (.invokeinterface 30 2, 5) := by decide +kernel
theorem dJ5_compareComparables_26 : decode cJ5_compareComparables 26 = .ok (.ireturn, 1) := dk_172 (dk_at dksJ5_compareComparables_1 5 rfl rfl)
abbrev cJ5_put : ByteArray := prog_49_method_15_code
def yJ5_put : MethodName := ⟨RJ5, "put", "(Ljava/lang/Object;Ljava/lang/Object;)Ljava/lang/Object;"⟩
def dkwJ5_put_0 : List UInt8 := [42, 43, 184, 0, 149, 43, 44, 3, 4, 182, 0, 152, 176]
abbrev dktJ5_put_0 : List UInt8 := dkwJ5_put_0 ++ []
theorem dksJ5_put_0 : cJ5_put.data.toList.drop 0 = dktJ5_put_0 := by decide +kernel
theorem dJ5_put_0 : decode cJ5_put 0 = .ok (.aload_n 0, 1) := dk_42 (dk_at dksJ5_put_0 0 rfl rfl)
theorem dJ5_put_1 : decode cJ5_put 1 = .ok (.aload_n 1, 1) := dk_43 (dk_at dksJ5_put_0 1 rfl rfl)
theorem dJ5_put_2 : decode cJ5_put 2 = .ok (.invokestatic 149, 3) := dk_184 0 149 (dk_at dksJ5_put_0 2 rfl rfl)
theorem dJ5_put_5 : decode cJ5_put 5 = .ok (.aload_n 1, 1) := dk_43 (dk_at dksJ5_put_0 5 rfl rfl)
theorem dJ5_put_6 : decode cJ5_put 6 = .ok (.aload_n 2, 1) := dk_44 (dk_at dksJ5_put_0 6 rfl rfl)
theorem dJ5_put_7 : decode cJ5_put 7 = .ok (.iconst 0, 1) := dk_3 (dk_at dksJ5_put_0 7 rfl rfl)
theorem dJ5_put_8 : decode cJ5_put 8 = .ok (.iconst 1, 1) := dk_4 (dk_at dksJ5_put_0 8 rfl rfl)
theorem dJ5_put_9 : decode cJ5_put 9 = .ok (.invokevirtual 152, 3) := dk_182 0 152 (dk_at dksJ5_put_0 9 rfl rfl)
theorem dJ5_put_12 : decode cJ5_put 12 = .ok (.areturn, 1) := dk_176 (dk_at dksJ5_put_0 12 rfl rfl)
abbrev cJ5_putVal : ByteArray := prog_49_method_16_code
def yJ5_putVal : MethodName := ⟨RJ5, "putVal", "(ILjava/lang/Object;Ljava/lang/Object;ZZ)Ljava/lang/Object;"⟩
def dkwJ5_putVal_12 : List UInt8 := [181, 0, 156, 42, 180, 0, 88, 164, 0, 8, 42, 182, 0, 117, 87, 42, 21, 5, 182, 0, 205, 1, 176]
abbrev dktJ5_putVal_12 : List UInt8 := dkwJ5_putVal_12 ++ []
def dkwJ5_putVal_11 : List UInt8 := [182, 0, 198, 25, 12, 176, 42, 89, 180, 0, 202, 4, 96, 181, 0, 202, 42, 89, 180, 0, 156, 4, 96, 90]
abbrev dktJ5_putVal_11 : List UInt8 := dkwJ5_putVal_11 ++ dktJ5_putVal_12
def dkwJ5_putVal_10 : List UInt8 := [180, 0, 162, 58, 12, 21, 4, 153, 0, 8, 25, 12, 199, 0, 9, 25, 10, 45, 181, 0, 162, 42, 25, 10]
abbrev dktJ5_putVal_10 : List UInt8 := dkwJ5_putVal_10 ++ dktJ5_putVal_11
def dkwJ5_putVal_9 : List UInt8 := [153, 0, 6, 167, 0, 13, 25, 10, 58, 7, 132, 12, 1, 167, 255, 171, 25, 10, 198, 0, 35, 25, 10]
abbrev dktJ5_putVal_9 : List UInt8 := dkwJ5_putVal_9 ++ dktJ5_putVal_10
def dkwJ5_putVal_8 : List UInt8 := [25, 10, 180, 0, 170, 89, 58, 11, 44, 165, 0, 29, 44, 198, 0, 15, 44, 25, 11, 182, 0, 173]
abbrev dktJ5_putVal_8 : List UInt8 := dkwJ5_putVal_8 ++ dktJ5_putVal_9
def dkwJ5_putVal_7 : List UInt8 := [16, 7, 161, 0, 60, 42, 25, 6, 27, 182, 0, 194, 167, 0, 50, 25, 10, 180, 0, 168, 27, 160, 0, 31]
abbrev dktJ5_putVal_7 : List UInt8 := dkwJ5_putVal_7 ++ dktJ5_putVal_8
def dkwJ5_putVal_6 : List UInt8 := [180, 0, 177, 89, 58, 10, 199, 0, 33, 25, 7, 42, 27, 44, 45, 1, 182, 0, 186, 181, 0, 177, 21, 12]
abbrev dktJ5_putVal_6 : List UInt8 := dkwJ5_putVal_6 ++ dktJ5_putVal_7
def dkwJ5_putVal_5 : List UInt8 := [192, 0, 180, 42, 25, 6, 27, 44, 45, 182, 0, 190, 58, 10, 167, 0, 94, 3, 54, 12, 25, 7]
abbrev dktJ5_putVal_5 : List UInt8 := dkwJ5_putVal_5 ++ dktJ5_putVal_6
def dkwJ5_putVal_4 : List UInt8 := [182, 0, 173, 153, 0, 10, 25, 7, 58, 10, 167, 0, 121, 25, 7, 193, 0, 180, 153, 0, 22, 25, 7]
abbrev dktJ5_putVal_4 : List UInt8 := dkwJ5_putVal_4 ++ dktJ5_putVal_5
def dkwJ5_putVal_3 : List UInt8 := [160, 0, 35, 25, 7, 180, 0, 170, 89, 58, 11, 44, 165, 0, 16, 44, 198, 0, 19, 44, 25, 11]
abbrev dktJ5_putVal_3 : List UInt8 := dkwJ5_putVal_3 ++ dktJ5_putVal_4
def dkwJ5_putVal_2 : List UInt8 := [25, 6, 21, 9, 42, 27, 44, 45, 1, 182, 0, 186, 83, 167, 0, 199, 25, 7, 180, 0, 168, 27]
abbrev dktJ5_putVal_2 : List UInt8 := dkwJ5_putVal_2 ++ dktJ5_putVal_3
def dkwJ5_putVal_1 : List UInt8 := [58, 6, 190, 54, 8, 25, 6, 21, 8, 4, 100, 27, 126, 89, 54, 9, 50, 89, 58, 7, 199, 0, 19]
abbrev dktJ5_putVal_1 : List UInt8 := dkwJ5_putVal_1 ++ dktJ5_putVal_2
def dkwJ5_putVal_0 : List UInt8 := [42, 180, 0, 105, 89, 58, 6, 198, 0, 12, 25, 6, 190, 89, 54, 8, 154, 0, 13, 42, 182, 0, 117, 89]
abbrev dktJ5_putVal_0 : List UInt8 := dkwJ5_putVal_0 ++ dktJ5_putVal_1
theorem dksJ5_putVal_0 : cJ5_putVal.data.toList.drop 0 = dktJ5_putVal_0 := by decide +kernel
theorem dksJ5_putVal_1 : cJ5_putVal.data.toList.drop 24 = dktJ5_putVal_1 := dk_seg dksJ5_putVal_0 24 rfl rfl
theorem dksJ5_putVal_2 : cJ5_putVal.data.toList.drop 47 = dktJ5_putVal_2 := dk_seg dksJ5_putVal_1 23 rfl rfl
theorem dksJ5_putVal_3 : cJ5_putVal.data.toList.drop 69 = dktJ5_putVal_3 := dk_seg dksJ5_putVal_2 22 rfl rfl
theorem dksJ5_putVal_4 : cJ5_putVal.data.toList.drop 91 = dktJ5_putVal_4 := dk_seg dksJ5_putVal_3 22 rfl rfl
theorem dksJ5_putVal_5 : cJ5_putVal.data.toList.drop 114 = dktJ5_putVal_5 := dk_seg dksJ5_putVal_4 23 rfl rfl
theorem dksJ5_putVal_6 : cJ5_putVal.data.toList.drop 136 = dktJ5_putVal_6 := dk_seg dksJ5_putVal_5 22 rfl rfl
theorem dksJ5_putVal_7 : cJ5_putVal.data.toList.drop 160 = dktJ5_putVal_7 := dk_seg dksJ5_putVal_6 24 rfl rfl
theorem dksJ5_putVal_8 : cJ5_putVal.data.toList.drop 184 = dktJ5_putVal_8 := dk_seg dksJ5_putVal_7 24 rfl rfl
theorem dksJ5_putVal_9 : cJ5_putVal.data.toList.drop 206 = dktJ5_putVal_9 := dk_seg dksJ5_putVal_8 22 rfl rfl
theorem dksJ5_putVal_10 : cJ5_putVal.data.toList.drop 229 = dktJ5_putVal_10 := dk_seg dksJ5_putVal_9 23 rfl rfl
theorem dksJ5_putVal_11 : cJ5_putVal.data.toList.drop 253 = dktJ5_putVal_11 := dk_seg dksJ5_putVal_10 24 rfl rfl
theorem dksJ5_putVal_12 : cJ5_putVal.data.toList.drop 277 = dktJ5_putVal_12 := dk_seg dksJ5_putVal_11 24 rfl rfl
theorem dJ5_putVal_0 : decode cJ5_putVal 0 = .ok (.aload_n 0, 1) := dk_42 (dk_at dksJ5_putVal_0 0 rfl rfl)
theorem dJ5_putVal_1 : decode cJ5_putVal 1 = .ok (.getfield 105, 3) := dk_180 0 105 (dk_at dksJ5_putVal_0 1 rfl rfl)
theorem dJ5_putVal_4 : decode cJ5_putVal 4 = .ok (.dup, 1) := dk_89 (dk_at dksJ5_putVal_0 4 rfl rfl)
theorem dJ5_putVal_5 : decode cJ5_putVal 5 = .ok (.astore 6, 2) := dk_58 6 (dk_at dksJ5_putVal_0 5 rfl rfl)
theorem dJ5_putVal_7 : decode cJ5_putVal 7 = .ok (.ifnull 12, 3) := dk_198 0 12 (dk_at dksJ5_putVal_0 7 rfl rfl)
theorem dJ5_putVal_10 : decode cJ5_putVal 10 = .ok (.aload 6, 2) := dk_25 6 (dk_at dksJ5_putVal_0 10 rfl rfl)
theorem dJ5_putVal_12 : decode cJ5_putVal 12 = .ok (.arraylength, 1) := dk_190 (dk_at dksJ5_putVal_0 12 rfl rfl)
theorem dJ5_putVal_13 : decode cJ5_putVal 13 = .ok (.dup, 1) := dk_89 (dk_at dksJ5_putVal_0 13 rfl rfl)
theorem dJ5_putVal_14 : decode cJ5_putVal 14 = .ok (.istore 8, 2) := dk_54 8 (dk_at dksJ5_putVal_0 14 rfl rfl)
theorem dJ5_putVal_16 : decode cJ5_putVal 16 = .ok (.ifCond .ne 13, 3) := dk_154 0 13 (dk_at dksJ5_putVal_0 16 rfl rfl)
theorem dJ5_putVal_19 : decode cJ5_putVal 19 = .ok (.aload_n 0, 1) := dk_42 (dk_at dksJ5_putVal_0 19 rfl rfl)
theorem dJ5_putVal_20 : decode cJ5_putVal 20 = .ok (.invokevirtual 117, 3) := dk_182 0 117 (dk_at dksJ5_putVal_0 20 rfl rfl)
theorem dJ5_putVal_23 : decode cJ5_putVal 23 = .ok (.dup, 1) := dk_89 (dk_at dksJ5_putVal_0 23 rfl rfl)
theorem dJ5_putVal_24 : decode cJ5_putVal 24 = .ok (.astore 6, 2) := dk_58 6 (dk_at dksJ5_putVal_1 0 rfl rfl)
theorem dJ5_putVal_26 : decode cJ5_putVal 26 = .ok (.arraylength, 1) := dk_190 (dk_at dksJ5_putVal_1 2 rfl rfl)
theorem dJ5_putVal_27 : decode cJ5_putVal 27 = .ok (.istore 8, 2) := dk_54 8 (dk_at dksJ5_putVal_1 3 rfl rfl)
theorem dJ5_putVal_29 : decode cJ5_putVal 29 = .ok (.aload 6, 2) := dk_25 6 (dk_at dksJ5_putVal_1 5 rfl rfl)
theorem dJ5_putVal_31 : decode cJ5_putVal 31 = .ok (.iload 8, 2) := dk_21 8 (dk_at dksJ5_putVal_1 7 rfl rfl)
theorem dJ5_putVal_33 : decode cJ5_putVal 33 = .ok (.iconst 1, 1) := dk_4 (dk_at dksJ5_putVal_1 9 rfl rfl)
theorem dJ5_putVal_34 : decode cJ5_putVal 34 = .ok (.isub, 1) := dk_100 (dk_at dksJ5_putVal_1 10 rfl rfl)
theorem dJ5_putVal_35 : decode cJ5_putVal 35 = .ok (.iload_n 1, 1) := dk_27 (dk_at dksJ5_putVal_1 11 rfl rfl)
theorem dJ5_putVal_36 : decode cJ5_putVal 36 = .ok (.iand, 1) := dk_126 (dk_at dksJ5_putVal_1 12 rfl rfl)
theorem dJ5_putVal_37 : decode cJ5_putVal 37 = .ok (.dup, 1) := dk_89 (dk_at dksJ5_putVal_1 13 rfl rfl)
theorem dJ5_putVal_38 : decode cJ5_putVal 38 = .ok (.istore 9, 2) := dk_54 9 (dk_at dksJ5_putVal_1 14 rfl rfl)
theorem dJ5_putVal_40 : decode cJ5_putVal 40 = .ok (.aaload, 1) := dk_50 (dk_at dksJ5_putVal_1 16 rfl rfl)
theorem dJ5_putVal_41 : decode cJ5_putVal 41 = .ok (.dup, 1) := dk_89 (dk_at dksJ5_putVal_1 17 rfl rfl)
theorem dJ5_putVal_42 : decode cJ5_putVal 42 = .ok (.astore 7, 2) := dk_58 7 (dk_at dksJ5_putVal_1 18 rfl rfl)
theorem dJ5_putVal_44 : decode cJ5_putVal 44 = .ok (.ifnonnull 19, 3) := dk_199 0 19 (dk_at dksJ5_putVal_1 20 rfl rfl)
theorem dJ5_putVal_47 : decode cJ5_putVal 47 = .ok (.aload 6, 2) := dk_25 6 (dk_at dksJ5_putVal_2 0 rfl rfl)
theorem dJ5_putVal_49 : decode cJ5_putVal 49 = .ok (.iload 9, 2) := dk_21 9 (dk_at dksJ5_putVal_2 2 rfl rfl)
theorem dJ5_putVal_51 : decode cJ5_putVal 51 = .ok (.aload_n 0, 1) := dk_42 (dk_at dksJ5_putVal_2 4 rfl rfl)
theorem dJ5_putVal_52 : decode cJ5_putVal 52 = .ok (.iload_n 1, 1) := dk_27 (dk_at dksJ5_putVal_2 5 rfl rfl)
theorem dJ5_putVal_53 : decode cJ5_putVal 53 = .ok (.aload_n 2, 1) := dk_44 (dk_at dksJ5_putVal_2 6 rfl rfl)
theorem dJ5_putVal_54 : decode cJ5_putVal 54 = .ok (.aload_n 3, 1) := dk_45 (dk_at dksJ5_putVal_2 7 rfl rfl)
theorem dJ5_putVal_55 : decode cJ5_putVal 55 = .ok (.aconst_null, 1) := dk_1 (dk_at dksJ5_putVal_2 8 rfl rfl)
theorem dJ5_putVal_56 : decode cJ5_putVal 56 = .ok (.invokevirtual 186, 3) := dk_182 0 186 (dk_at dksJ5_putVal_2 9 rfl rfl)
theorem dJ5_putVal_59 : decode cJ5_putVal 59 = .ok (.aastore, 1) := dk_83 (dk_at dksJ5_putVal_2 12 rfl rfl)
theorem dJ5_putVal_60 : decode cJ5_putVal 60 = .ok (.goto 199, 3) := dk_167 0 199 (dk_at dksJ5_putVal_2 13 rfl rfl)
theorem dJ5_putVal_63 : decode cJ5_putVal 63 = .ok (.aload 7, 2) := dk_25 7 (dk_at dksJ5_putVal_2 16 rfl rfl)
theorem dJ5_putVal_65 : decode cJ5_putVal 65 = .ok (.getfield 168, 3) := dk_180 0 168 (dk_at dksJ5_putVal_2 18 rfl rfl)
theorem dJ5_putVal_68 : decode cJ5_putVal 68 = .ok (.iload_n 1, 1) := dk_27 (dk_at dksJ5_putVal_2 21 rfl rfl)
theorem dJ5_putVal_69 : decode cJ5_putVal 69 = .ok (.if_icmp .ne 35, 3) := dk_160 0 35 (dk_at dksJ5_putVal_3 0 rfl rfl)
theorem dJ5_putVal_72 : decode cJ5_putVal 72 = .ok (.aload 7, 2) := dk_25 7 (dk_at dksJ5_putVal_3 3 rfl rfl)
theorem dJ5_putVal_74 : decode cJ5_putVal 74 = .ok (.getfield 170, 3) := dk_180 0 170 (dk_at dksJ5_putVal_3 5 rfl rfl)
theorem dJ5_putVal_77 : decode cJ5_putVal 77 = .ok (.dup, 1) := dk_89 (dk_at dksJ5_putVal_3 8 rfl rfl)
theorem dJ5_putVal_78 : decode cJ5_putVal 78 = .ok (.astore 11, 2) := dk_58 11 (dk_at dksJ5_putVal_3 9 rfl rfl)
theorem dJ5_putVal_80 : decode cJ5_putVal 80 = .ok (.aload_n 2, 1) := dk_44 (dk_at dksJ5_putVal_3 11 rfl rfl)
theorem dJ5_putVal_81 : decode cJ5_putVal 81 = .ok (.if_acmp .eq 16, 3) := dk_165 0 16 (dk_at dksJ5_putVal_3 12 rfl rfl)
theorem dJ5_putVal_84 : decode cJ5_putVal 84 = .ok (.aload_n 2, 1) := dk_44 (dk_at dksJ5_putVal_3 15 rfl rfl)
theorem dJ5_putVal_85 : decode cJ5_putVal 85 = .ok (.ifnull 19, 3) := dk_198 0 19 (dk_at dksJ5_putVal_3 16 rfl rfl)
theorem dJ5_putVal_88 : decode cJ5_putVal 88 = .ok (.aload_n 2, 1) := dk_44 (dk_at dksJ5_putVal_3 19 rfl rfl)
theorem dJ5_putVal_89 : decode cJ5_putVal 89 = .ok (.aload 11, 2) := dk_25 11 (dk_at dksJ5_putVal_3 20 rfl rfl)
theorem dJ5_putVal_91 : decode cJ5_putVal 91 = .ok (.invokevirtual 173, 3) := dk_182 0 173 (dk_at dksJ5_putVal_4 0 rfl rfl)
theorem dJ5_putVal_94 : decode cJ5_putVal 94 = .ok (.ifCond .eq 10, 3) := dk_153 0 10 (dk_at dksJ5_putVal_4 3 rfl rfl)
theorem dJ5_putVal_97 : decode cJ5_putVal 97 = .ok (.aload 7, 2) := dk_25 7 (dk_at dksJ5_putVal_4 6 rfl rfl)
theorem dJ5_putVal_99 : decode cJ5_putVal 99 = .ok (.astore 10, 2) := dk_58 10 (dk_at dksJ5_putVal_4 8 rfl rfl)
theorem dJ5_putVal_101 : decode cJ5_putVal 101 = .ok (.goto 121, 3) := dk_167 0 121 (dk_at dksJ5_putVal_4 10 rfl rfl)
theorem dJ5_putVal_104 : decode cJ5_putVal 104 = .ok (.aload 7, 2) := dk_25 7 (dk_at dksJ5_putVal_4 13 rfl rfl)
theorem dJ5_putVal_106 : decode cJ5_putVal 106 = .ok (.instanceof 180, 3) := dk_193 0 180 (dk_at dksJ5_putVal_4 15 rfl rfl)
theorem dJ5_putVal_109 : decode cJ5_putVal 109 = .ok (.ifCond .eq 22, 3) := dk_153 0 22 (dk_at dksJ5_putVal_4 18 rfl rfl)
theorem dJ5_putVal_112 : decode cJ5_putVal 112 = .ok (.aload 7, 2) := dk_25 7 (dk_at dksJ5_putVal_4 21 rfl rfl)
theorem dJ5_putVal_114 : decode cJ5_putVal 114 = .ok (.checkcast 180, 3) := dk_192 0 180 (dk_at dksJ5_putVal_5 0 rfl rfl)
theorem dJ5_putVal_117 : decode cJ5_putVal 117 = .ok (.aload_n 0, 1) := dk_42 (dk_at dksJ5_putVal_5 3 rfl rfl)
theorem dJ5_putVal_118 : decode cJ5_putVal 118 = .ok (.aload 6, 2) := dk_25 6 (dk_at dksJ5_putVal_5 4 rfl rfl)
theorem dJ5_putVal_120 : decode cJ5_putVal 120 = .ok (.iload_n 1, 1) := dk_27 (dk_at dksJ5_putVal_5 6 rfl rfl)
theorem dJ5_putVal_121 : decode cJ5_putVal 121 = .ok (.aload_n 2, 1) := dk_44 (dk_at dksJ5_putVal_5 7 rfl rfl)
theorem dJ5_putVal_122 : decode cJ5_putVal 122 = .ok (.aload_n 3, 1) := dk_45 (dk_at dksJ5_putVal_5 8 rfl rfl)
theorem dJ5_putVal_123 : decode cJ5_putVal 123 = .ok (.invokevirtual 190, 3) := dk_182 0 190 (dk_at dksJ5_putVal_5 9 rfl rfl)
theorem dJ5_putVal_126 : decode cJ5_putVal 126 = .ok (.astore 10, 2) := dk_58 10 (dk_at dksJ5_putVal_5 12 rfl rfl)
theorem dJ5_putVal_128 : decode cJ5_putVal 128 = .ok (.goto 94, 3) := dk_167 0 94 (dk_at dksJ5_putVal_5 14 rfl rfl)
theorem dJ5_putVal_131 : decode cJ5_putVal 131 = .ok (.iconst 0, 1) := dk_3 (dk_at dksJ5_putVal_5 17 rfl rfl)
theorem dJ5_putVal_132 : decode cJ5_putVal 132 = .ok (.istore 12, 2) := dk_54 12 (dk_at dksJ5_putVal_5 18 rfl rfl)
theorem dJ5_putVal_134 : decode cJ5_putVal 134 = .ok (.aload 7, 2) := dk_25 7 (dk_at dksJ5_putVal_5 20 rfl rfl)
theorem dJ5_putVal_136 : decode cJ5_putVal 136 = .ok (.getfield 177, 3) := dk_180 0 177 (dk_at dksJ5_putVal_6 0 rfl rfl)
theorem dJ5_putVal_139 : decode cJ5_putVal 139 = .ok (.dup, 1) := dk_89 (dk_at dksJ5_putVal_6 3 rfl rfl)
theorem dJ5_putVal_140 : decode cJ5_putVal 140 = .ok (.astore 10, 2) := dk_58 10 (dk_at dksJ5_putVal_6 4 rfl rfl)
theorem dJ5_putVal_142 : decode cJ5_putVal 142 = .ok (.ifnonnull 33, 3) := dk_199 0 33 (dk_at dksJ5_putVal_6 6 rfl rfl)
theorem dJ5_putVal_145 : decode cJ5_putVal 145 = .ok (.aload 7, 2) := dk_25 7 (dk_at dksJ5_putVal_6 9 rfl rfl)
theorem dJ5_putVal_147 : decode cJ5_putVal 147 = .ok (.aload_n 0, 1) := dk_42 (dk_at dksJ5_putVal_6 11 rfl rfl)
theorem dJ5_putVal_148 : decode cJ5_putVal 148 = .ok (.iload_n 1, 1) := dk_27 (dk_at dksJ5_putVal_6 12 rfl rfl)
theorem dJ5_putVal_149 : decode cJ5_putVal 149 = .ok (.aload_n 2, 1) := dk_44 (dk_at dksJ5_putVal_6 13 rfl rfl)
theorem dJ5_putVal_150 : decode cJ5_putVal 150 = .ok (.aload_n 3, 1) := dk_45 (dk_at dksJ5_putVal_6 14 rfl rfl)
theorem dJ5_putVal_151 : decode cJ5_putVal 151 = .ok (.aconst_null, 1) := dk_1 (dk_at dksJ5_putVal_6 15 rfl rfl)
theorem dJ5_putVal_152 : decode cJ5_putVal 152 = .ok (.invokevirtual 186, 3) := dk_182 0 186 (dk_at dksJ5_putVal_6 16 rfl rfl)
theorem dJ5_putVal_155 : decode cJ5_putVal 155 = .ok (.putfield 177, 3) := dk_181 0 177 (dk_at dksJ5_putVal_6 19 rfl rfl)
theorem dJ5_putVal_158 : decode cJ5_putVal 158 = .ok (.iload 12, 2) := dk_21 12 (dk_at dksJ5_putVal_6 22 rfl rfl)
theorem dJ5_putVal_160 : decode cJ5_putVal 160 = .ok (.bipush 7, 2) := dk_16 7 (dk_at dksJ5_putVal_7 0 rfl rfl)
theorem dJ5_putVal_162 : decode cJ5_putVal 162 = .ok (.if_icmp .lt 60, 3) := dk_161 0 60 (dk_at dksJ5_putVal_7 2 rfl rfl)
theorem dJ5_putVal_165 : decode cJ5_putVal 165 = .ok (.aload_n 0, 1) := dk_42 (dk_at dksJ5_putVal_7 5 rfl rfl)
theorem dJ5_putVal_166 : decode cJ5_putVal 166 = .ok (.aload 6, 2) := dk_25 6 (dk_at dksJ5_putVal_7 6 rfl rfl)
theorem dJ5_putVal_168 : decode cJ5_putVal 168 = .ok (.iload_n 1, 1) := dk_27 (dk_at dksJ5_putVal_7 8 rfl rfl)
theorem dJ5_putVal_169 : decode cJ5_putVal 169 = .ok (.invokevirtual 194, 3) := dk_182 0 194 (dk_at dksJ5_putVal_7 9 rfl rfl)
theorem dJ5_putVal_172 : decode cJ5_putVal 172 = .ok (.goto 50, 3) := dk_167 0 50 (dk_at dksJ5_putVal_7 12 rfl rfl)
theorem dJ5_putVal_175 : decode cJ5_putVal 175 = .ok (.aload 10, 2) := dk_25 10 (dk_at dksJ5_putVal_7 15 rfl rfl)
theorem dJ5_putVal_177 : decode cJ5_putVal 177 = .ok (.getfield 168, 3) := dk_180 0 168 (dk_at dksJ5_putVal_7 17 rfl rfl)
theorem dJ5_putVal_180 : decode cJ5_putVal 180 = .ok (.iload_n 1, 1) := dk_27 (dk_at dksJ5_putVal_7 20 rfl rfl)
theorem dJ5_putVal_181 : decode cJ5_putVal 181 = .ok (.if_icmp .ne 31, 3) := dk_160 0 31 (dk_at dksJ5_putVal_7 21 rfl rfl)
theorem dJ5_putVal_184 : decode cJ5_putVal 184 = .ok (.aload 10, 2) := dk_25 10 (dk_at dksJ5_putVal_8 0 rfl rfl)
theorem dJ5_putVal_186 : decode cJ5_putVal 186 = .ok (.getfield 170, 3) := dk_180 0 170 (dk_at dksJ5_putVal_8 2 rfl rfl)
theorem dJ5_putVal_189 : decode cJ5_putVal 189 = .ok (.dup, 1) := dk_89 (dk_at dksJ5_putVal_8 5 rfl rfl)
theorem dJ5_putVal_190 : decode cJ5_putVal 190 = .ok (.astore 11, 2) := dk_58 11 (dk_at dksJ5_putVal_8 6 rfl rfl)
theorem dJ5_putVal_192 : decode cJ5_putVal 192 = .ok (.aload_n 2, 1) := dk_44 (dk_at dksJ5_putVal_8 8 rfl rfl)
theorem dJ5_putVal_193 : decode cJ5_putVal 193 = .ok (.if_acmp .eq 29, 3) := dk_165 0 29 (dk_at dksJ5_putVal_8 9 rfl rfl)
theorem dJ5_putVal_196 : decode cJ5_putVal 196 = .ok (.aload_n 2, 1) := dk_44 (dk_at dksJ5_putVal_8 12 rfl rfl)
theorem dJ5_putVal_197 : decode cJ5_putVal 197 = .ok (.ifnull 15, 3) := dk_198 0 15 (dk_at dksJ5_putVal_8 13 rfl rfl)
theorem dJ5_putVal_200 : decode cJ5_putVal 200 = .ok (.aload_n 2, 1) := dk_44 (dk_at dksJ5_putVal_8 16 rfl rfl)
theorem dJ5_putVal_201 : decode cJ5_putVal 201 = .ok (.aload 11, 2) := dk_25 11 (dk_at dksJ5_putVal_8 17 rfl rfl)
theorem dJ5_putVal_203 : decode cJ5_putVal 203 = .ok (.invokevirtual 173, 3) := dk_182 0 173 (dk_at dksJ5_putVal_8 19 rfl rfl)
theorem dJ5_putVal_206 : decode cJ5_putVal 206 = .ok (.ifCond .eq 6, 3) := dk_153 0 6 (dk_at dksJ5_putVal_9 0 rfl rfl)
theorem dJ5_putVal_209 : decode cJ5_putVal 209 = .ok (.goto 13, 3) := dk_167 0 13 (dk_at dksJ5_putVal_9 3 rfl rfl)
theorem dJ5_putVal_212 : decode cJ5_putVal 212 = .ok (.aload 10, 2) := dk_25 10 (dk_at dksJ5_putVal_9 6 rfl rfl)
theorem dJ5_putVal_214 : decode cJ5_putVal 214 = .ok (.astore 7, 2) := dk_58 7 (dk_at dksJ5_putVal_9 8 rfl rfl)
theorem dJ5_putVal_216 : decode cJ5_putVal 216 = .ok (.iinc 12 1, 3) := dk_132 12 1 (dk_at dksJ5_putVal_9 10 rfl rfl)
theorem dJ5_putVal_219 : decode cJ5_putVal 219 = .ok (.goto (-85), 3) := dk_167 255 171 (dk_at dksJ5_putVal_9 13 rfl rfl)
theorem dJ5_putVal_222 : decode cJ5_putVal 222 = .ok (.aload 10, 2) := dk_25 10 (dk_at dksJ5_putVal_9 16 rfl rfl)
theorem dJ5_putVal_224 : decode cJ5_putVal 224 = .ok (.ifnull 35, 3) := dk_198 0 35 (dk_at dksJ5_putVal_9 18 rfl rfl)
theorem dJ5_putVal_227 : decode cJ5_putVal 227 = .ok (.aload 10, 2) := dk_25 10 (dk_at dksJ5_putVal_9 21 rfl rfl)
theorem dJ5_putVal_229 : decode cJ5_putVal 229 = .ok (.getfield 162, 3) := dk_180 0 162 (dk_at dksJ5_putVal_10 0 rfl rfl)
theorem dJ5_putVal_232 : decode cJ5_putVal 232 = .ok (.astore 12, 2) := dk_58 12 (dk_at dksJ5_putVal_10 3 rfl rfl)
theorem dJ5_putVal_234 : decode cJ5_putVal 234 = .ok (.iload 4, 2) := dk_21 4 (dk_at dksJ5_putVal_10 5 rfl rfl)
theorem dJ5_putVal_236 : decode cJ5_putVal 236 = .ok (.ifCond .eq 8, 3) := dk_153 0 8 (dk_at dksJ5_putVal_10 7 rfl rfl)
theorem dJ5_putVal_239 : decode cJ5_putVal 239 = .ok (.aload 12, 2) := dk_25 12 (dk_at dksJ5_putVal_10 10 rfl rfl)
theorem dJ5_putVal_241 : decode cJ5_putVal 241 = .ok (.ifnonnull 9, 3) := dk_199 0 9 (dk_at dksJ5_putVal_10 12 rfl rfl)
theorem dJ5_putVal_244 : decode cJ5_putVal 244 = .ok (.aload 10, 2) := dk_25 10 (dk_at dksJ5_putVal_10 15 rfl rfl)
theorem dJ5_putVal_246 : decode cJ5_putVal 246 = .ok (.aload_n 3, 1) := dk_45 (dk_at dksJ5_putVal_10 17 rfl rfl)
theorem dJ5_putVal_247 : decode cJ5_putVal 247 = .ok (.putfield 162, 3) := dk_181 0 162 (dk_at dksJ5_putVal_10 18 rfl rfl)
theorem dJ5_putVal_250 : decode cJ5_putVal 250 = .ok (.aload_n 0, 1) := dk_42 (dk_at dksJ5_putVal_10 21 rfl rfl)
theorem dJ5_putVal_251 : decode cJ5_putVal 251 = .ok (.aload 10, 2) := dk_25 10 (dk_at dksJ5_putVal_10 22 rfl rfl)
theorem dJ5_putVal_253 : decode cJ5_putVal 253 = .ok (.invokevirtual 198, 3) := dk_182 0 198 (dk_at dksJ5_putVal_11 0 rfl rfl)
theorem dJ5_putVal_256 : decode cJ5_putVal 256 = .ok (.aload 12, 2) := dk_25 12 (dk_at dksJ5_putVal_11 3 rfl rfl)
theorem dJ5_putVal_258 : decode cJ5_putVal 258 = .ok (.areturn, 1) := dk_176 (dk_at dksJ5_putVal_11 5 rfl rfl)
theorem dJ5_putVal_259 : decode cJ5_putVal 259 = .ok (.aload_n 0, 1) := dk_42 (dk_at dksJ5_putVal_11 6 rfl rfl)
theorem dJ5_putVal_260 : decode cJ5_putVal 260 = .ok (.dup, 1) := dk_89 (dk_at dksJ5_putVal_11 7 rfl rfl)
theorem dJ5_putVal_261 : decode cJ5_putVal 261 = .ok (.getfield 202, 3) := dk_180 0 202 (dk_at dksJ5_putVal_11 8 rfl rfl)
theorem dJ5_putVal_264 : decode cJ5_putVal 264 = .ok (.iconst 1, 1) := dk_4 (dk_at dksJ5_putVal_11 11 rfl rfl)
theorem dJ5_putVal_265 : decode cJ5_putVal 265 = .ok (.iadd, 1) := dk_96 (dk_at dksJ5_putVal_11 12 rfl rfl)
theorem dJ5_putVal_266 : decode cJ5_putVal 266 = .ok (.putfield 202, 3) := dk_181 0 202 (dk_at dksJ5_putVal_11 13 rfl rfl)
theorem dJ5_putVal_269 : decode cJ5_putVal 269 = .ok (.aload_n 0, 1) := dk_42 (dk_at dksJ5_putVal_11 16 rfl rfl)
theorem dJ5_putVal_270 : decode cJ5_putVal 270 = .ok (.dup, 1) := dk_89 (dk_at dksJ5_putVal_11 17 rfl rfl)
theorem dJ5_putVal_271 : decode cJ5_putVal 271 = .ok (.getfield 156, 3) := dk_180 0 156 (dk_at dksJ5_putVal_11 18 rfl rfl)
theorem dJ5_putVal_274 : decode cJ5_putVal 274 = .ok (.iconst 1, 1) := dk_4 (dk_at dksJ5_putVal_11 21 rfl rfl)
theorem dJ5_putVal_275 : decode cJ5_putVal 275 = .ok (.iadd, 1) := dk_96 (dk_at dksJ5_putVal_11 22 rfl rfl)
theorem dJ5_putVal_276 : decode cJ5_putVal 276 = .ok (.dup_x1, 1) := dk_90 (dk_at dksJ5_putVal_11 23 rfl rfl)
theorem dJ5_putVal_277 : decode cJ5_putVal 277 = .ok (.putfield 156, 3) := dk_181 0 156 (dk_at dksJ5_putVal_12 0 rfl rfl)
theorem dJ5_putVal_280 : decode cJ5_putVal 280 = .ok (.aload_n 0, 1) := dk_42 (dk_at dksJ5_putVal_12 3 rfl rfl)
theorem dJ5_putVal_281 : decode cJ5_putVal 281 = .ok (.getfield 88, 3) := dk_180 0 88 (dk_at dksJ5_putVal_12 4 rfl rfl)
theorem dJ5_putVal_284 : decode cJ5_putVal 284 = .ok (.if_icmp .le 8, 3) := dk_164 0 8 (dk_at dksJ5_putVal_12 7 rfl rfl)
theorem dJ5_putVal_287 : decode cJ5_putVal 287 = .ok (.aload_n 0, 1) := dk_42 (dk_at dksJ5_putVal_12 10 rfl rfl)
theorem dJ5_putVal_288 : decode cJ5_putVal 288 = .ok (.invokevirtual 117, 3) := dk_182 0 117 (dk_at dksJ5_putVal_12 11 rfl rfl)
theorem dJ5_putVal_291 : decode cJ5_putVal 291 = .ok (.pop, 1) := dk_87 (dk_at dksJ5_putVal_12 14 rfl rfl)
theorem dJ5_putVal_292 : decode cJ5_putVal 292 = .ok (.aload_n 0, 1) := dk_42 (dk_at dksJ5_putVal_12 15 rfl rfl)
theorem dJ5_putVal_293 : decode cJ5_putVal 293 = .ok (.iload 5, 2) := dk_21 5 (dk_at dksJ5_putVal_12 16 rfl rfl)
theorem dJ5_putVal_295 : decode cJ5_putVal 295 = .ok (.invokevirtual 205, 3) := dk_182 0 205 (dk_at dksJ5_putVal_12 18 rfl rfl)
theorem dJ5_putVal_298 : decode cJ5_putVal 298 = .ok (.aconst_null, 1) := dk_1 (dk_at dksJ5_putVal_12 21 rfl rfl)
theorem dJ5_putVal_299 : decode cJ5_putVal 299 = .ok (.areturn, 1) := dk_176 (dk_at dksJ5_putVal_12 22 rfl rfl)
abbrev cJ5_resize : ByteArray := prog_49_method_17_code
def yJ5_resize : MethodName := ⟨RJ5, "resize", "()[Ljava/util/HashMap$Node;"⟩
def dkwJ5_resize_15 : List UInt8 := [25, 6, 176]
abbrev dktJ5_resize_15 : List UInt8 := dkwJ5_resize_15 ++ []
def dkwJ5_resize_14 : List UInt8 := [198, 0, 18, 25, 12, 1, 181, 0, 177, 25, 6, 21, 7, 28, 96, 25, 11, 83, 132, 7, 1, 167, 255, 57]
abbrev dktJ5_resize_14 : List UInt8 := dkwJ5_resize_14 ++ dktJ5_resize_15
def dkwJ5_resize_13 : List UInt8 := [199, 255, 185, 25, 10, 198, 0, 16, 25, 10, 1, 181, 0, 177, 25, 6, 21, 7, 25, 9, 83, 25, 12]
abbrev dktJ5_resize_13 : List UInt8 := dkwJ5_resize_13 ++ dktJ5_resize_14
def dkwJ5_resize_12 : List UInt8 := [25, 8, 58, 11, 167, 0, 10, 25, 12, 25, 8, 181, 0, 177, 25, 8, 58, 12, 25, 13, 89, 58, 8]
abbrev dktJ5_resize_12 : List UInt8 := dkwJ5_resize_12 ++ dktJ5_resize_13
def dkwJ5_resize_11 : List UInt8 := [58, 9, 167, 0, 10, 25, 10, 25, 8, 181, 0, 177, 25, 8, 58, 10, 167, 0, 26, 25, 12, 199, 0, 10]
abbrev dktJ5_resize_11 : List UInt8 := dkwJ5_resize_11 ++ dktJ5_resize_12
def dkwJ5_resize_10 : List UInt8 := [25, 8, 180, 0, 177, 58, 13, 25, 8, 180, 0, 168, 28, 126, 154, 0, 29, 25, 10, 199, 0, 10, 25, 8]
abbrev dktJ5_resize_10 : List UInt8 := dkwJ5_resize_10 ++ dktJ5_resize_11
def dkwJ5_resize_9 : List UInt8 := [42, 25, 6, 21, 7, 28, 182, 0, 211, 167, 0, 127, 1, 58, 9, 1, 58, 10, 1, 58, 11, 1, 58, 12]
abbrev dktJ5_resize_9 : List UInt8 := dkwJ5_resize_9 ++ dktJ5_resize_10
def dkwJ5_resize_8 : List UInt8 := [21, 4, 4, 100, 126, 25, 8, 83, 167, 0, 152, 25, 8, 193, 0, 180, 153, 0, 20, 25, 8, 192, 0, 180]
abbrev dktJ5_resize_8 : List UInt8 := dkwJ5_resize_8 ++ dktJ5_resize_9
def dkwJ5_resize_7 : List UInt8 := [198, 0, 183, 43, 21, 7, 1, 83, 25, 8, 180, 0, 177, 199, 0, 21, 25, 6, 25, 8, 180, 0, 168]
abbrev dktJ5_resize_7 : List UInt8 := dkwJ5_resize_7 ++ dktJ5_resize_8
def dkwJ5_resize_6 : List UInt8 := [181, 0, 105, 43, 198, 0, 208, 3, 54, 7, 21, 7, 28, 162, 0, 199, 43, 21, 7, 50, 89, 58, 8]
abbrev dktJ5_resize_6 : List UInt8 := dkwJ5_resize_6 ++ dktJ5_resize_7
def dkwJ5_resize_5 : List UInt8 := [167, 0, 5, 18, 209, 54, 5, 42, 21, 5, 181, 0, 88, 21, 4, 189, 0, 163, 58, 6, 42, 25, 6]
abbrev dktJ5_resize_5 : List UInt8 := dkwJ5_resize_5 ++ dktJ5_resize_6
def dkwJ5_resize_4 : List UInt8 := [180, 0, 81, 106, 56, 6, 21, 4, 18, 42, 162, 0, 17, 23, 6, 18, 210, 150, 156, 0, 9, 23, 6, 139]
abbrev dktJ5_resize_4 : List UInt8 := dkwJ5_resize_4 ++ dktJ5_resize_5
def dkwJ5_resize_3 : List UInt8 := [54, 4, 167, 0, 11, 16, 16, 54, 4, 16, 12, 54, 5, 21, 5, 154, 0, 38, 21, 4, 134, 42]
abbrev dktJ5_resize_3 : List UInt8 := dkwJ5_resize_3 ++ dktJ5_resize_4
def dkwJ5_resize_2 : List UInt8 := [18, 42, 162, 0, 35, 28, 16, 16, 161, 0, 29, 29, 4, 120, 54, 5, 167, 0, 21, 29, 158, 0, 9, 29]
abbrev dktJ5_resize_2 : List UInt8 := dkwJ5_resize_2 ++ dktJ5_resize_3
def dkwJ5_resize_1 : List UInt8 := [28, 158, 0, 42, 28, 18, 42, 161, 0, 11, 42, 18, 209, 181, 0, 88, 43, 176, 28, 4, 120, 89, 54, 4]
abbrev dktJ5_resize_1 : List UInt8 := dkwJ5_resize_1 ++ dktJ5_resize_2
def dkwJ5_resize_0 : List UInt8 := [42, 180, 0, 105, 76, 43, 199, 0, 7, 3, 167, 0, 5, 43, 190, 61, 42, 180, 0, 88, 62, 3, 54, 5]
abbrev dktJ5_resize_0 : List UInt8 := dkwJ5_resize_0 ++ dktJ5_resize_1
theorem dksJ5_resize_0 : cJ5_resize.data.toList.drop 0 = dktJ5_resize_0 := by decide +kernel
theorem dksJ5_resize_1 : cJ5_resize.data.toList.drop 24 = dktJ5_resize_1 := dk_seg dksJ5_resize_0 24 rfl rfl
theorem dksJ5_resize_2 : cJ5_resize.data.toList.drop 48 = dktJ5_resize_2 := dk_seg dksJ5_resize_1 24 rfl rfl
theorem dksJ5_resize_3 : cJ5_resize.data.toList.drop 72 = dktJ5_resize_3 := dk_seg dksJ5_resize_2 24 rfl rfl
theorem dksJ5_resize_4 : cJ5_resize.data.toList.drop 94 = dktJ5_resize_4 := dk_seg dksJ5_resize_3 22 rfl rfl
theorem dksJ5_resize_5 : cJ5_resize.data.toList.drop 118 = dktJ5_resize_5 := dk_seg dksJ5_resize_4 24 rfl rfl
theorem dksJ5_resize_6 : cJ5_resize.data.toList.drop 141 = dktJ5_resize_6 := dk_seg dksJ5_resize_5 23 rfl rfl
theorem dksJ5_resize_7 : cJ5_resize.data.toList.drop 164 = dktJ5_resize_7 := dk_seg dksJ5_resize_6 23 rfl rfl
theorem dksJ5_resize_8 : cJ5_resize.data.toList.drop 187 = dktJ5_resize_8 := dk_seg dksJ5_resize_7 23 rfl rfl
theorem dksJ5_resize_9 : cJ5_resize.data.toList.drop 211 = dktJ5_resize_9 := dk_seg dksJ5_resize_8 24 rfl rfl
theorem dksJ5_resize_10 : cJ5_resize.data.toList.drop 235 = dktJ5_resize_10 := dk_seg dksJ5_resize_9 24 rfl rfl
theorem dksJ5_resize_11 : cJ5_resize.data.toList.drop 259 = dktJ5_resize_11 := dk_seg dksJ5_resize_10 24 rfl rfl
theorem dksJ5_resize_12 : cJ5_resize.data.toList.drop 283 = dktJ5_resize_12 := dk_seg dksJ5_resize_11 24 rfl rfl
theorem dksJ5_resize_13 : cJ5_resize.data.toList.drop 306 = dktJ5_resize_13 := dk_seg dksJ5_resize_12 23 rfl rfl
theorem dksJ5_resize_14 : cJ5_resize.data.toList.drop 329 = dktJ5_resize_14 := dk_seg dksJ5_resize_13 23 rfl rfl
theorem dksJ5_resize_15 : cJ5_resize.data.toList.drop 353 = dktJ5_resize_15 := dk_seg dksJ5_resize_14 24 rfl rfl
theorem dJ5_resize_0 : decode cJ5_resize 0 = .ok (.aload_n 0, 1) := dk_42 (dk_at dksJ5_resize_0 0 rfl rfl)
theorem dJ5_resize_1 : decode cJ5_resize 1 = .ok (.getfield 105, 3) := dk_180 0 105 (dk_at dksJ5_resize_0 1 rfl rfl)
theorem dJ5_resize_4 : decode cJ5_resize 4 = .ok (.astore_n 1, 1) := dk_76 (dk_at dksJ5_resize_0 4 rfl rfl)
theorem dJ5_resize_5 : decode cJ5_resize 5 = .ok (.aload_n 1, 1) := dk_43 (dk_at dksJ5_resize_0 5 rfl rfl)
theorem dJ5_resize_6 : decode cJ5_resize 6 = .ok (.ifnonnull 7, 3) := dk_199 0 7 (dk_at dksJ5_resize_0 6 rfl rfl)
theorem dJ5_resize_9 : decode cJ5_resize 9 = .ok (.iconst 0, 1) := dk_3 (dk_at dksJ5_resize_0 9 rfl rfl)
theorem dJ5_resize_10 : decode cJ5_resize 10 = .ok (.goto 5, 3) := dk_167 0 5 (dk_at dksJ5_resize_0 10 rfl rfl)
theorem dJ5_resize_13 : decode cJ5_resize 13 = .ok (.aload_n 1, 1) := dk_43 (dk_at dksJ5_resize_0 13 rfl rfl)
theorem dJ5_resize_14 : decode cJ5_resize 14 = .ok (.arraylength, 1) := dk_190 (dk_at dksJ5_resize_0 14 rfl rfl)
theorem dJ5_resize_15 : decode cJ5_resize 15 = .ok (.istore_n 2, 1) := dk_61 (dk_at dksJ5_resize_0 15 rfl rfl)
theorem dJ5_resize_16 : decode cJ5_resize 16 = .ok (.aload_n 0, 1) := dk_42 (dk_at dksJ5_resize_0 16 rfl rfl)
theorem dJ5_resize_17 : decode cJ5_resize 17 = .ok (.getfield 88, 3) := dk_180 0 88 (dk_at dksJ5_resize_0 17 rfl rfl)
theorem dJ5_resize_20 : decode cJ5_resize 20 = .ok (.istore_n 3, 1) := dk_62 (dk_at dksJ5_resize_0 20 rfl rfl)
theorem dJ5_resize_21 : decode cJ5_resize 21 = .ok (.iconst 0, 1) := dk_3 (dk_at dksJ5_resize_0 21 rfl rfl)
theorem dJ5_resize_22 : decode cJ5_resize 22 = .ok (.istore 5, 2) := dk_54 5 (dk_at dksJ5_resize_0 22 rfl rfl)
theorem dJ5_resize_24 : decode cJ5_resize 24 = .ok (.iload_n 2, 1) := dk_28 (dk_at dksJ5_resize_1 0 rfl rfl)
theorem dJ5_resize_25 : decode cJ5_resize 25 = .ok (.ifCond .le 42, 3) := dk_158 0 42 (dk_at dksJ5_resize_1 1 rfl rfl)
theorem dJ5_resize_28 : decode cJ5_resize 28 = .ok (.iload_n 2, 1) := dk_28 (dk_at dksJ5_resize_1 4 rfl rfl)
theorem dJ5_resize_29 : decode cJ5_resize 29 = .ok (.ldc 42, 2) := dk_18 42 (dk_at dksJ5_resize_1 5 rfl rfl)
theorem dJ5_resize_31 : decode cJ5_resize 31 = .ok (.if_icmp .lt 11, 3) := dk_161 0 11 (dk_at dksJ5_resize_1 7 rfl rfl)
theorem dJ5_resize_34 : decode cJ5_resize 34 = .ok (.aload_n 0, 1) := dk_42 (dk_at dksJ5_resize_1 10 rfl rfl)
theorem dJ5_resize_35 : decode cJ5_resize 35 = .ok (.ldc 209, 2) := dk_18 209 (dk_at dksJ5_resize_1 11 rfl rfl)
theorem dJ5_resize_37 : decode cJ5_resize 37 = .ok (.putfield 88, 3) := dk_181 0 88 (dk_at dksJ5_resize_1 13 rfl rfl)
theorem dJ5_resize_40 : decode cJ5_resize 40 = .ok (.aload_n 1, 1) := dk_43 (dk_at dksJ5_resize_1 16 rfl rfl)
theorem dJ5_resize_41 : decode cJ5_resize 41 = .ok (.areturn, 1) := dk_176 (dk_at dksJ5_resize_1 17 rfl rfl)
theorem dJ5_resize_42 : decode cJ5_resize 42 = .ok (.iload_n 2, 1) := dk_28 (dk_at dksJ5_resize_1 18 rfl rfl)
theorem dJ5_resize_43 : decode cJ5_resize 43 = .ok (.iconst 1, 1) := dk_4 (dk_at dksJ5_resize_1 19 rfl rfl)
theorem dJ5_resize_44 : decode cJ5_resize 44 = .ok (.ishl, 1) := dk_120 (dk_at dksJ5_resize_1 20 rfl rfl)
theorem dJ5_resize_45 : decode cJ5_resize 45 = .ok (.dup, 1) := dk_89 (dk_at dksJ5_resize_1 21 rfl rfl)
theorem dJ5_resize_46 : decode cJ5_resize 46 = .ok (.istore 4, 2) := dk_54 4 (dk_at dksJ5_resize_1 22 rfl rfl)
theorem dJ5_resize_48 : decode cJ5_resize 48 = .ok (.ldc 42, 2) := dk_18 42 (dk_at dksJ5_resize_2 0 rfl rfl)
theorem dJ5_resize_50 : decode cJ5_resize 50 = .ok (.if_icmp .ge 35, 3) := dk_162 0 35 (dk_at dksJ5_resize_2 2 rfl rfl)
theorem dJ5_resize_53 : decode cJ5_resize 53 = .ok (.iload_n 2, 1) := dk_28 (dk_at dksJ5_resize_2 5 rfl rfl)
theorem dJ5_resize_54 : decode cJ5_resize 54 = .ok (.bipush 16, 2) := dk_16 16 (dk_at dksJ5_resize_2 6 rfl rfl)
theorem dJ5_resize_56 : decode cJ5_resize 56 = .ok (.if_icmp .lt 29, 3) := dk_161 0 29 (dk_at dksJ5_resize_2 8 rfl rfl)
theorem dJ5_resize_59 : decode cJ5_resize 59 = .ok (.iload_n 3, 1) := dk_29 (dk_at dksJ5_resize_2 11 rfl rfl)
theorem dJ5_resize_60 : decode cJ5_resize 60 = .ok (.iconst 1, 1) := dk_4 (dk_at dksJ5_resize_2 12 rfl rfl)
theorem dJ5_resize_61 : decode cJ5_resize 61 = .ok (.ishl, 1) := dk_120 (dk_at dksJ5_resize_2 13 rfl rfl)
theorem dJ5_resize_62 : decode cJ5_resize 62 = .ok (.istore 5, 2) := dk_54 5 (dk_at dksJ5_resize_2 14 rfl rfl)
theorem dJ5_resize_64 : decode cJ5_resize 64 = .ok (.goto 21, 3) := dk_167 0 21 (dk_at dksJ5_resize_2 16 rfl rfl)
theorem dJ5_resize_67 : decode cJ5_resize 67 = .ok (.iload_n 3, 1) := dk_29 (dk_at dksJ5_resize_2 19 rfl rfl)
theorem dJ5_resize_68 : decode cJ5_resize 68 = .ok (.ifCond .le 9, 3) := dk_158 0 9 (dk_at dksJ5_resize_2 20 rfl rfl)
theorem dJ5_resize_71 : decode cJ5_resize 71 = .ok (.iload_n 3, 1) := dk_29 (dk_at dksJ5_resize_2 23 rfl rfl)
theorem dJ5_resize_72 : decode cJ5_resize 72 = .ok (.istore 4, 2) := dk_54 4 (dk_at dksJ5_resize_3 0 rfl rfl)
theorem dJ5_resize_74 : decode cJ5_resize 74 = .ok (.goto 11, 3) := dk_167 0 11 (dk_at dksJ5_resize_3 2 rfl rfl)
theorem dJ5_resize_77 : decode cJ5_resize 77 = .ok (.bipush 16, 2) := dk_16 16 (dk_at dksJ5_resize_3 5 rfl rfl)
theorem dJ5_resize_79 : decode cJ5_resize 79 = .ok (.istore 4, 2) := dk_54 4 (dk_at dksJ5_resize_3 7 rfl rfl)
theorem dJ5_resize_81 : decode cJ5_resize 81 = .ok (.bipush 12, 2) := dk_16 12 (dk_at dksJ5_resize_3 9 rfl rfl)
theorem dJ5_resize_83 : decode cJ5_resize 83 = .ok (.istore 5, 2) := dk_54 5 (dk_at dksJ5_resize_3 11 rfl rfl)
theorem dJ5_resize_85 : decode cJ5_resize 85 = .ok (.iload 5, 2) := dk_21 5 (dk_at dksJ5_resize_3 13 rfl rfl)
theorem dJ5_resize_87 : decode cJ5_resize 87 = .ok (.ifCond .ne 38, 3) := dk_154 0 38 (dk_at dksJ5_resize_3 15 rfl rfl)
theorem dJ5_resize_90 : decode cJ5_resize 90 = .ok (.iload 4, 2) := dk_21 4 (dk_at dksJ5_resize_3 18 rfl rfl)
theorem dJ5_resize_92 : decode cJ5_resize 92 = .ok (.i2f, 1) := dk_134 (dk_at dksJ5_resize_3 20 rfl rfl)
theorem dJ5_resize_93 : decode cJ5_resize 93 = .ok (.aload_n 0, 1) := dk_42 (dk_at dksJ5_resize_3 21 rfl rfl)
theorem dJ5_resize_94 : decode cJ5_resize 94 = .ok (.getfield 81, 3) := dk_180 0 81 (dk_at dksJ5_resize_4 0 rfl rfl)
theorem dJ5_resize_97 : decode cJ5_resize 97 = .ok (.fmul, 1) := dk_106 (dk_at dksJ5_resize_4 3 rfl rfl)
theorem dJ5_resize_98 : decode cJ5_resize 98 = .ok (.fstore 6, 2) := dk_56 6 (dk_at dksJ5_resize_4 4 rfl rfl)
theorem dJ5_resize_100 : decode cJ5_resize 100 = .ok (.iload 4, 2) := dk_21 4 (dk_at dksJ5_resize_4 6 rfl rfl)
theorem dJ5_resize_102 : decode cJ5_resize 102 = .ok (.ldc 42, 2) := dk_18 42 (dk_at dksJ5_resize_4 8 rfl rfl)
theorem dJ5_resize_104 : decode cJ5_resize 104 = .ok (.if_icmp .ge 17, 3) := dk_162 0 17 (dk_at dksJ5_resize_4 10 rfl rfl)
theorem dJ5_resize_107 : decode cJ5_resize 107 = .ok (.fload 6, 2) := dk_23 6 (dk_at dksJ5_resize_4 13 rfl rfl)
theorem dJ5_resize_109 : decode cJ5_resize 109 = .ok (.ldc 210, 2) := dk_18 210 (dk_at dksJ5_resize_4 15 rfl rfl)
theorem dJ5_resize_111 : decode cJ5_resize 111 = .ok (.fcmp .g, 1) := dk_150 (dk_at dksJ5_resize_4 17 rfl rfl)
theorem dJ5_resize_112 : decode cJ5_resize 112 = .ok (.ifCond .ge 9, 3) := dk_156 0 9 (dk_at dksJ5_resize_4 18 rfl rfl)
theorem dJ5_resize_115 : decode cJ5_resize 115 = .ok (.fload 6, 2) := dk_23 6 (dk_at dksJ5_resize_4 21 rfl rfl)
theorem dJ5_resize_117 : decode cJ5_resize 117 = .ok (.f2i, 1) := dk_139 (dk_at dksJ5_resize_4 23 rfl rfl)
theorem dJ5_resize_118 : decode cJ5_resize 118 = .ok (.goto 5, 3) := dk_167 0 5 (dk_at dksJ5_resize_5 0 rfl rfl)
theorem dJ5_resize_121 : decode cJ5_resize 121 = .ok (.ldc 209, 2) := dk_18 209 (dk_at dksJ5_resize_5 3 rfl rfl)
theorem dJ5_resize_123 : decode cJ5_resize 123 = .ok (.istore 5, 2) := dk_54 5 (dk_at dksJ5_resize_5 5 rfl rfl)
theorem dJ5_resize_125 : decode cJ5_resize 125 = .ok (.aload_n 0, 1) := dk_42 (dk_at dksJ5_resize_5 7 rfl rfl)
theorem dJ5_resize_126 : decode cJ5_resize 126 = .ok (.iload 5, 2) := dk_21 5 (dk_at dksJ5_resize_5 8 rfl rfl)
theorem dJ5_resize_128 : decode cJ5_resize 128 = .ok (.putfield 88, 3) := dk_181 0 88 (dk_at dksJ5_resize_5 10 rfl rfl)
theorem dJ5_resize_131 : decode cJ5_resize 131 = .ok (.iload 4, 2) := dk_21 4 (dk_at dksJ5_resize_5 13 rfl rfl)
theorem dJ5_resize_133 : decode cJ5_resize 133 = .ok (.anewarray 163, 3) := dk_189 0 163 (dk_at dksJ5_resize_5 15 rfl rfl)
theorem dJ5_resize_136 : decode cJ5_resize 136 = .ok (.astore 6, 2) := dk_58 6 (dk_at dksJ5_resize_5 18 rfl rfl)
theorem dJ5_resize_138 : decode cJ5_resize 138 = .ok (.aload_n 0, 1) := dk_42 (dk_at dksJ5_resize_5 20 rfl rfl)
theorem dJ5_resize_139 : decode cJ5_resize 139 = .ok (.aload 6, 2) := dk_25 6 (dk_at dksJ5_resize_5 21 rfl rfl)
theorem dJ5_resize_141 : decode cJ5_resize 141 = .ok (.putfield 105, 3) := dk_181 0 105 (dk_at dksJ5_resize_6 0 rfl rfl)
theorem dJ5_resize_144 : decode cJ5_resize 144 = .ok (.aload_n 1, 1) := dk_43 (dk_at dksJ5_resize_6 3 rfl rfl)
theorem dJ5_resize_145 : decode cJ5_resize 145 = .ok (.ifnull 208, 3) := dk_198 0 208 (dk_at dksJ5_resize_6 4 rfl rfl)
theorem dJ5_resize_148 : decode cJ5_resize 148 = .ok (.iconst 0, 1) := dk_3 (dk_at dksJ5_resize_6 7 rfl rfl)
theorem dJ5_resize_149 : decode cJ5_resize 149 = .ok (.istore 7, 2) := dk_54 7 (dk_at dksJ5_resize_6 8 rfl rfl)
theorem dJ5_resize_151 : decode cJ5_resize 151 = .ok (.iload 7, 2) := dk_21 7 (dk_at dksJ5_resize_6 10 rfl rfl)
theorem dJ5_resize_153 : decode cJ5_resize 153 = .ok (.iload_n 2, 1) := dk_28 (dk_at dksJ5_resize_6 12 rfl rfl)
theorem dJ5_resize_154 : decode cJ5_resize 154 = .ok (.if_icmp .ge 199, 3) := dk_162 0 199 (dk_at dksJ5_resize_6 13 rfl rfl)
theorem dJ5_resize_157 : decode cJ5_resize 157 = .ok (.aload_n 1, 1) := dk_43 (dk_at dksJ5_resize_6 16 rfl rfl)
theorem dJ5_resize_158 : decode cJ5_resize 158 = .ok (.iload 7, 2) := dk_21 7 (dk_at dksJ5_resize_6 17 rfl rfl)
theorem dJ5_resize_160 : decode cJ5_resize 160 = .ok (.aaload, 1) := dk_50 (dk_at dksJ5_resize_6 19 rfl rfl)
theorem dJ5_resize_161 : decode cJ5_resize 161 = .ok (.dup, 1) := dk_89 (dk_at dksJ5_resize_6 20 rfl rfl)
theorem dJ5_resize_162 : decode cJ5_resize 162 = .ok (.astore 8, 2) := dk_58 8 (dk_at dksJ5_resize_6 21 rfl rfl)
theorem dJ5_resize_164 : decode cJ5_resize 164 = .ok (.ifnull 183, 3) := dk_198 0 183 (dk_at dksJ5_resize_7 0 rfl rfl)
theorem dJ5_resize_167 : decode cJ5_resize 167 = .ok (.aload_n 1, 1) := dk_43 (dk_at dksJ5_resize_7 3 rfl rfl)
theorem dJ5_resize_168 : decode cJ5_resize 168 = .ok (.iload 7, 2) := dk_21 7 (dk_at dksJ5_resize_7 4 rfl rfl)
theorem dJ5_resize_170 : decode cJ5_resize 170 = .ok (.aconst_null, 1) := dk_1 (dk_at dksJ5_resize_7 6 rfl rfl)
theorem dJ5_resize_171 : decode cJ5_resize 171 = .ok (.aastore, 1) := dk_83 (dk_at dksJ5_resize_7 7 rfl rfl)
theorem dJ5_resize_172 : decode cJ5_resize 172 = .ok (.aload 8, 2) := dk_25 8 (dk_at dksJ5_resize_7 8 rfl rfl)
theorem dJ5_resize_174 : decode cJ5_resize 174 = .ok (.getfield 177, 3) := dk_180 0 177 (dk_at dksJ5_resize_7 10 rfl rfl)
theorem dJ5_resize_177 : decode cJ5_resize 177 = .ok (.ifnonnull 21, 3) := dk_199 0 21 (dk_at dksJ5_resize_7 13 rfl rfl)
theorem dJ5_resize_180 : decode cJ5_resize 180 = .ok (.aload 6, 2) := dk_25 6 (dk_at dksJ5_resize_7 16 rfl rfl)
theorem dJ5_resize_182 : decode cJ5_resize 182 = .ok (.aload 8, 2) := dk_25 8 (dk_at dksJ5_resize_7 18 rfl rfl)
theorem dJ5_resize_184 : decode cJ5_resize 184 = .ok (.getfield 168, 3) := dk_180 0 168 (dk_at dksJ5_resize_7 20 rfl rfl)
theorem dJ5_resize_187 : decode cJ5_resize 187 = .ok (.iload 4, 2) := dk_21 4 (dk_at dksJ5_resize_8 0 rfl rfl)
theorem dJ5_resize_189 : decode cJ5_resize 189 = .ok (.iconst 1, 1) := dk_4 (dk_at dksJ5_resize_8 2 rfl rfl)
theorem dJ5_resize_190 : decode cJ5_resize 190 = .ok (.isub, 1) := dk_100 (dk_at dksJ5_resize_8 3 rfl rfl)
theorem dJ5_resize_191 : decode cJ5_resize 191 = .ok (.iand, 1) := dk_126 (dk_at dksJ5_resize_8 4 rfl rfl)
theorem dJ5_resize_192 : decode cJ5_resize 192 = .ok (.aload 8, 2) := dk_25 8 (dk_at dksJ5_resize_8 5 rfl rfl)
theorem dJ5_resize_194 : decode cJ5_resize 194 = .ok (.aastore, 1) := dk_83 (dk_at dksJ5_resize_8 7 rfl rfl)
theorem dJ5_resize_195 : decode cJ5_resize 195 = .ok (.goto 152, 3) := dk_167 0 152 (dk_at dksJ5_resize_8 8 rfl rfl)
theorem dJ5_resize_198 : decode cJ5_resize 198 = .ok (.aload 8, 2) := dk_25 8 (dk_at dksJ5_resize_8 11 rfl rfl)
theorem dJ5_resize_200 : decode cJ5_resize 200 = .ok (.instanceof 180, 3) := dk_193 0 180 (dk_at dksJ5_resize_8 13 rfl rfl)
theorem dJ5_resize_203 : decode cJ5_resize 203 = .ok (.ifCond .eq 20, 3) := dk_153 0 20 (dk_at dksJ5_resize_8 16 rfl rfl)
theorem dJ5_resize_206 : decode cJ5_resize 206 = .ok (.aload 8, 2) := dk_25 8 (dk_at dksJ5_resize_8 19 rfl rfl)
theorem dJ5_resize_208 : decode cJ5_resize 208 = .ok (.checkcast 180, 3) := dk_192 0 180 (dk_at dksJ5_resize_8 21 rfl rfl)
theorem dJ5_resize_211 : decode cJ5_resize 211 = .ok (.aload_n 0, 1) := dk_42 (dk_at dksJ5_resize_9 0 rfl rfl)
theorem dJ5_resize_212 : decode cJ5_resize 212 = .ok (.aload 6, 2) := dk_25 6 (dk_at dksJ5_resize_9 1 rfl rfl)
theorem dJ5_resize_214 : decode cJ5_resize 214 = .ok (.iload 7, 2) := dk_21 7 (dk_at dksJ5_resize_9 3 rfl rfl)
theorem dJ5_resize_216 : decode cJ5_resize 216 = .ok (.iload_n 2, 1) := dk_28 (dk_at dksJ5_resize_9 5 rfl rfl)
theorem dJ5_resize_217 : decode cJ5_resize 217 = .ok (.invokevirtual 211, 3) := dk_182 0 211 (dk_at dksJ5_resize_9 6 rfl rfl)
theorem dJ5_resize_220 : decode cJ5_resize 220 = .ok (.goto 127, 3) := dk_167 0 127 (dk_at dksJ5_resize_9 9 rfl rfl)
theorem dJ5_resize_223 : decode cJ5_resize 223 = .ok (.aconst_null, 1) := dk_1 (dk_at dksJ5_resize_9 12 rfl rfl)
theorem dJ5_resize_224 : decode cJ5_resize 224 = .ok (.astore 9, 2) := dk_58 9 (dk_at dksJ5_resize_9 13 rfl rfl)
theorem dJ5_resize_226 : decode cJ5_resize 226 = .ok (.aconst_null, 1) := dk_1 (dk_at dksJ5_resize_9 15 rfl rfl)
theorem dJ5_resize_227 : decode cJ5_resize 227 = .ok (.astore 10, 2) := dk_58 10 (dk_at dksJ5_resize_9 16 rfl rfl)
theorem dJ5_resize_229 : decode cJ5_resize 229 = .ok (.aconst_null, 1) := dk_1 (dk_at dksJ5_resize_9 18 rfl rfl)
theorem dJ5_resize_230 : decode cJ5_resize 230 = .ok (.astore 11, 2) := dk_58 11 (dk_at dksJ5_resize_9 19 rfl rfl)
theorem dJ5_resize_232 : decode cJ5_resize 232 = .ok (.aconst_null, 1) := dk_1 (dk_at dksJ5_resize_9 21 rfl rfl)
theorem dJ5_resize_233 : decode cJ5_resize 233 = .ok (.astore 12, 2) := dk_58 12 (dk_at dksJ5_resize_9 22 rfl rfl)
theorem dJ5_resize_235 : decode cJ5_resize 235 = .ok (.aload 8, 2) := dk_25 8 (dk_at dksJ5_resize_10 0 rfl rfl)
theorem dJ5_resize_237 : decode cJ5_resize 237 = .ok (.getfield 177, 3) := dk_180 0 177 (dk_at dksJ5_resize_10 2 rfl rfl)
theorem dJ5_resize_240 : decode cJ5_resize 240 = .ok (.astore 13, 2) := dk_58 13 (dk_at dksJ5_resize_10 5 rfl rfl)
theorem dJ5_resize_242 : decode cJ5_resize 242 = .ok (.aload 8, 2) := dk_25 8 (dk_at dksJ5_resize_10 7 rfl rfl)
theorem dJ5_resize_244 : decode cJ5_resize 244 = .ok (.getfield 168, 3) := dk_180 0 168 (dk_at dksJ5_resize_10 9 rfl rfl)
theorem dJ5_resize_247 : decode cJ5_resize 247 = .ok (.iload_n 2, 1) := dk_28 (dk_at dksJ5_resize_10 12 rfl rfl)
theorem dJ5_resize_248 : decode cJ5_resize 248 = .ok (.iand, 1) := dk_126 (dk_at dksJ5_resize_10 13 rfl rfl)
theorem dJ5_resize_249 : decode cJ5_resize 249 = .ok (.ifCond .ne 29, 3) := dk_154 0 29 (dk_at dksJ5_resize_10 14 rfl rfl)
theorem dJ5_resize_252 : decode cJ5_resize 252 = .ok (.aload 10, 2) := dk_25 10 (dk_at dksJ5_resize_10 17 rfl rfl)
theorem dJ5_resize_254 : decode cJ5_resize 254 = .ok (.ifnonnull 10, 3) := dk_199 0 10 (dk_at dksJ5_resize_10 19 rfl rfl)
theorem dJ5_resize_257 : decode cJ5_resize 257 = .ok (.aload 8, 2) := dk_25 8 (dk_at dksJ5_resize_10 22 rfl rfl)
theorem dJ5_resize_259 : decode cJ5_resize 259 = .ok (.astore 9, 2) := dk_58 9 (dk_at dksJ5_resize_11 0 rfl rfl)
theorem dJ5_resize_261 : decode cJ5_resize 261 = .ok (.goto 10, 3) := dk_167 0 10 (dk_at dksJ5_resize_11 2 rfl rfl)
theorem dJ5_resize_264 : decode cJ5_resize 264 = .ok (.aload 10, 2) := dk_25 10 (dk_at dksJ5_resize_11 5 rfl rfl)
theorem dJ5_resize_266 : decode cJ5_resize 266 = .ok (.aload 8, 2) := dk_25 8 (dk_at dksJ5_resize_11 7 rfl rfl)
theorem dJ5_resize_268 : decode cJ5_resize 268 = .ok (.putfield 177, 3) := dk_181 0 177 (dk_at dksJ5_resize_11 9 rfl rfl)
theorem dJ5_resize_271 : decode cJ5_resize 271 = .ok (.aload 8, 2) := dk_25 8 (dk_at dksJ5_resize_11 12 rfl rfl)
theorem dJ5_resize_273 : decode cJ5_resize 273 = .ok (.astore 10, 2) := dk_58 10 (dk_at dksJ5_resize_11 14 rfl rfl)
theorem dJ5_resize_275 : decode cJ5_resize 275 = .ok (.goto 26, 3) := dk_167 0 26 (dk_at dksJ5_resize_11 16 rfl rfl)
theorem dJ5_resize_278 : decode cJ5_resize 278 = .ok (.aload 12, 2) := dk_25 12 (dk_at dksJ5_resize_11 19 rfl rfl)
theorem dJ5_resize_280 : decode cJ5_resize 280 = .ok (.ifnonnull 10, 3) := dk_199 0 10 (dk_at dksJ5_resize_11 21 rfl rfl)
theorem dJ5_resize_283 : decode cJ5_resize 283 = .ok (.aload 8, 2) := dk_25 8 (dk_at dksJ5_resize_12 0 rfl rfl)
theorem dJ5_resize_285 : decode cJ5_resize 285 = .ok (.astore 11, 2) := dk_58 11 (dk_at dksJ5_resize_12 2 rfl rfl)
theorem dJ5_resize_287 : decode cJ5_resize 287 = .ok (.goto 10, 3) := dk_167 0 10 (dk_at dksJ5_resize_12 4 rfl rfl)
theorem dJ5_resize_290 : decode cJ5_resize 290 = .ok (.aload 12, 2) := dk_25 12 (dk_at dksJ5_resize_12 7 rfl rfl)
theorem dJ5_resize_292 : decode cJ5_resize 292 = .ok (.aload 8, 2) := dk_25 8 (dk_at dksJ5_resize_12 9 rfl rfl)
theorem dJ5_resize_294 : decode cJ5_resize 294 = .ok (.putfield 177, 3) := dk_181 0 177 (dk_at dksJ5_resize_12 11 rfl rfl)
theorem dJ5_resize_297 : decode cJ5_resize 297 = .ok (.aload 8, 2) := dk_25 8 (dk_at dksJ5_resize_12 14 rfl rfl)
theorem dJ5_resize_299 : decode cJ5_resize 299 = .ok (.astore 12, 2) := dk_58 12 (dk_at dksJ5_resize_12 16 rfl rfl)
theorem dJ5_resize_301 : decode cJ5_resize 301 = .ok (.aload 13, 2) := dk_25 13 (dk_at dksJ5_resize_12 18 rfl rfl)
theorem dJ5_resize_303 : decode cJ5_resize 303 = .ok (.dup, 1) := dk_89 (dk_at dksJ5_resize_12 20 rfl rfl)
theorem dJ5_resize_304 : decode cJ5_resize 304 = .ok (.astore 8, 2) := dk_58 8 (dk_at dksJ5_resize_12 21 rfl rfl)
theorem dJ5_resize_306 : decode cJ5_resize 306 = .ok (.ifnonnull (-71), 3) := dk_199 255 185 (dk_at dksJ5_resize_13 0 rfl rfl)
theorem dJ5_resize_309 : decode cJ5_resize 309 = .ok (.aload 10, 2) := dk_25 10 (dk_at dksJ5_resize_13 3 rfl rfl)
theorem dJ5_resize_311 : decode cJ5_resize 311 = .ok (.ifnull 16, 3) := dk_198 0 16 (dk_at dksJ5_resize_13 5 rfl rfl)
theorem dJ5_resize_314 : decode cJ5_resize 314 = .ok (.aload 10, 2) := dk_25 10 (dk_at dksJ5_resize_13 8 rfl rfl)
theorem dJ5_resize_316 : decode cJ5_resize 316 = .ok (.aconst_null, 1) := dk_1 (dk_at dksJ5_resize_13 10 rfl rfl)
theorem dJ5_resize_317 : decode cJ5_resize 317 = .ok (.putfield 177, 3) := dk_181 0 177 (dk_at dksJ5_resize_13 11 rfl rfl)
theorem dJ5_resize_320 : decode cJ5_resize 320 = .ok (.aload 6, 2) := dk_25 6 (dk_at dksJ5_resize_13 14 rfl rfl)
theorem dJ5_resize_322 : decode cJ5_resize 322 = .ok (.iload 7, 2) := dk_21 7 (dk_at dksJ5_resize_13 16 rfl rfl)
theorem dJ5_resize_324 : decode cJ5_resize 324 = .ok (.aload 9, 2) := dk_25 9 (dk_at dksJ5_resize_13 18 rfl rfl)
theorem dJ5_resize_326 : decode cJ5_resize 326 = .ok (.aastore, 1) := dk_83 (dk_at dksJ5_resize_13 20 rfl rfl)
theorem dJ5_resize_327 : decode cJ5_resize 327 = .ok (.aload 12, 2) := dk_25 12 (dk_at dksJ5_resize_13 21 rfl rfl)
theorem dJ5_resize_329 : decode cJ5_resize 329 = .ok (.ifnull 18, 3) := dk_198 0 18 (dk_at dksJ5_resize_14 0 rfl rfl)
theorem dJ5_resize_332 : decode cJ5_resize 332 = .ok (.aload 12, 2) := dk_25 12 (dk_at dksJ5_resize_14 3 rfl rfl)
theorem dJ5_resize_334 : decode cJ5_resize 334 = .ok (.aconst_null, 1) := dk_1 (dk_at dksJ5_resize_14 5 rfl rfl)
theorem dJ5_resize_335 : decode cJ5_resize 335 = .ok (.putfield 177, 3) := dk_181 0 177 (dk_at dksJ5_resize_14 6 rfl rfl)
theorem dJ5_resize_338 : decode cJ5_resize 338 = .ok (.aload 6, 2) := dk_25 6 (dk_at dksJ5_resize_14 9 rfl rfl)
theorem dJ5_resize_340 : decode cJ5_resize 340 = .ok (.iload 7, 2) := dk_21 7 (dk_at dksJ5_resize_14 11 rfl rfl)
theorem dJ5_resize_342 : decode cJ5_resize 342 = .ok (.iload_n 2, 1) := dk_28 (dk_at dksJ5_resize_14 13 rfl rfl)
theorem dJ5_resize_343 : decode cJ5_resize 343 = .ok (.iadd, 1) := dk_96 (dk_at dksJ5_resize_14 14 rfl rfl)
theorem dJ5_resize_344 : decode cJ5_resize 344 = .ok (.aload 11, 2) := dk_25 11 (dk_at dksJ5_resize_14 15 rfl rfl)
theorem dJ5_resize_346 : decode cJ5_resize 346 = .ok (.aastore, 1) := dk_83 (dk_at dksJ5_resize_14 17 rfl rfl)
theorem dJ5_resize_347 : decode cJ5_resize 347 = .ok (.iinc 7 1, 3) := dk_132 7 1 (dk_at dksJ5_resize_14 18 rfl rfl)
theorem dJ5_resize_350 : decode cJ5_resize 350 = .ok (.goto (-199), 3) := dk_167 255 57 (dk_at dksJ5_resize_14 21 rfl rfl)
theorem dJ5_resize_353 : decode cJ5_resize 353 = .ok (.aload 6, 2) := dk_25 6 (dk_at dksJ5_resize_15 0 rfl rfl)
theorem dJ5_resize_355 : decode cJ5_resize 355 = .ok (.areturn, 1) := dk_176 (dk_at dksJ5_resize_15 2 rfl rfl)
abbrev cJ5_replacementNode : ByteArray := prog_49_method_47_code
def yJ5_replacementNode : MethodName := ⟨RJ5, "replacementNode", "(Ljava/util/HashMap$Node;Ljava/util/HashMap$Node;)Ljava/util/HashMap$Node;"⟩
def dkwJ5_replacementNode_0 : List UInt8 := [187, 0, 163, 89, 43, 180, 0, 168, 43, 180, 0, 170, 43, 180, 0, 162, 44, 183, 1, 119, 176]
abbrev dktJ5_replacementNode_0 : List UInt8 := dkwJ5_replacementNode_0 ++ []
theorem dksJ5_replacementNode_0 : cJ5_replacementNode.data.toList.drop 0 = dktJ5_replacementNode_0 := by decide +kernel
theorem dJ5_replacementNode_0 : decode cJ5_replacementNode 0 = .ok (.new 163, 3) := dk_187 0 163 (dk_at dksJ5_replacementNode_0 0 rfl rfl)
theorem dJ5_replacementNode_3 : decode cJ5_replacementNode 3 = .ok (.dup, 1) := dk_89 (dk_at dksJ5_replacementNode_0 3 rfl rfl)
theorem dJ5_replacementNode_4 : decode cJ5_replacementNode 4 = .ok (.aload_n 1, 1) := dk_43 (dk_at dksJ5_replacementNode_0 4 rfl rfl)
theorem dJ5_replacementNode_5 : decode cJ5_replacementNode 5 = .ok (.getfield 168, 3) := dk_180 0 168 (dk_at dksJ5_replacementNode_0 5 rfl rfl)
theorem dJ5_replacementNode_8 : decode cJ5_replacementNode 8 = .ok (.aload_n 1, 1) := dk_43 (dk_at dksJ5_replacementNode_0 8 rfl rfl)
theorem dJ5_replacementNode_9 : decode cJ5_replacementNode 9 = .ok (.getfield 170, 3) := dk_180 0 170 (dk_at dksJ5_replacementNode_0 9 rfl rfl)
theorem dJ5_replacementNode_12 : decode cJ5_replacementNode 12 = .ok (.aload_n 1, 1) := dk_43 (dk_at dksJ5_replacementNode_0 12 rfl rfl)
theorem dJ5_replacementNode_13 : decode cJ5_replacementNode 13 = .ok (.getfield 162, 3) := dk_180 0 162 (dk_at dksJ5_replacementNode_0 13 rfl rfl)
theorem dJ5_replacementNode_16 : decode cJ5_replacementNode 16 = .ok (.aload_n 2, 1) := dk_44 (dk_at dksJ5_replacementNode_0 16 rfl rfl)
theorem dJ5_replacementNode_17 : decode cJ5_replacementNode 17 = .ok (.invokespecial 375, 3) := dk_183 1 119 (dk_at dksJ5_replacementNode_0 17 rfl rfl)
theorem dJ5_replacementNode_20 : decode cJ5_replacementNode 20 = .ok (.areturn, 1) := dk_176 (dk_at dksJ5_replacementNode_0 20 rfl rfl)
abbrev cJ5_newNode : ByteArray := prog_49_method_46_code
def yJ5_newNode : MethodName := ⟨RJ5, "newNode", "(ILjava/lang/Object;Ljava/lang/Object;Ljava/util/HashMap$Node;)Ljava/util/HashMap$Node;"⟩
def dkwJ5_newNode_0 : List UInt8 := [187, 0, 163, 89, 27, 44, 45, 25, 4, 183, 1, 119, 176]
abbrev dktJ5_newNode_0 : List UInt8 := dkwJ5_newNode_0 ++ []
theorem dksJ5_newNode_0 : cJ5_newNode.data.toList.drop 0 = dktJ5_newNode_0 := by decide +kernel
theorem dJ5_newNode_0 : decode cJ5_newNode 0 = .ok (.new 163, 3) := dk_187 0 163 (dk_at dksJ5_newNode_0 0 rfl rfl)
theorem dJ5_newNode_3 : decode cJ5_newNode 3 = .ok (.dup, 1) := dk_89 (dk_at dksJ5_newNode_0 3 rfl rfl)
theorem dJ5_newNode_4 : decode cJ5_newNode 4 = .ok (.iload_n 1, 1) := dk_27 (dk_at dksJ5_newNode_0 4 rfl rfl)
theorem dJ5_newNode_5 : decode cJ5_newNode 5 = .ok (.aload_n 2, 1) := dk_44 (dk_at dksJ5_newNode_0 5 rfl rfl)
theorem dJ5_newNode_6 : decode cJ5_newNode 6 = .ok (.aload_n 3, 1) := dk_45 (dk_at dksJ5_newNode_0 6 rfl rfl)
theorem dJ5_newNode_7 : decode cJ5_newNode 7 = .ok (.aload 4, 2) := dk_25 4 (dk_at dksJ5_newNode_0 7 rfl rfl)
theorem dJ5_newNode_9 : decode cJ5_newNode 9 = .ok (.invokespecial 375, 3) := dk_183 1 119 (dk_at dksJ5_newNode_0 9 rfl rfl)
theorem dJ5_newNode_12 : decode cJ5_newNode 12 = .ok (.areturn, 1) := dk_176 (dk_at dksJ5_newNode_0 12 rfl rfl)
abbrev cJ5_newTreeNode : ByteArray := prog_49_method_48_code
def yJ5_newTreeNode : MethodName := ⟨RJ5, "newTreeNode", "(ILjava/lang/Object;Ljava/lang/Object;Ljava/util/HashMap$Node;)Ljava/util/HashMap$TreeNode;"⟩
def dkwJ5_newTreeNode_0 : List UInt8 := [187, 0, 180, 89, 27, 44, 45, 25, 4, 183, 1, 122, 176]
abbrev dktJ5_newTreeNode_0 : List UInt8 := dkwJ5_newTreeNode_0 ++ []
theorem dksJ5_newTreeNode_0 : cJ5_newTreeNode.data.toList.drop 0 = dktJ5_newTreeNode_0 := by decide +kernel
theorem dJ5_newTreeNode_0 : decode cJ5_newTreeNode 0 = .ok (.new 180, 3) := dk_187 0 180 (dk_at dksJ5_newTreeNode_0 0 rfl rfl)
theorem dJ5_newTreeNode_3 : decode cJ5_newTreeNode 3 = .ok (.dup, 1) := dk_89 (dk_at dksJ5_newTreeNode_0 3 rfl rfl)
theorem dJ5_newTreeNode_4 : decode cJ5_newTreeNode 4 = .ok (.iload_n 1, 1) := dk_27 (dk_at dksJ5_newTreeNode_0 4 rfl rfl)
theorem dJ5_newTreeNode_5 : decode cJ5_newTreeNode 5 = .ok (.aload_n 2, 1) := dk_44 (dk_at dksJ5_newTreeNode_0 5 rfl rfl)
theorem dJ5_newTreeNode_6 : decode cJ5_newTreeNode 6 = .ok (.aload_n 3, 1) := dk_45 (dk_at dksJ5_newTreeNode_0 6 rfl rfl)
theorem dJ5_newTreeNode_7 : decode cJ5_newTreeNode 7 = .ok (.aload 4, 2) := dk_25 4 (dk_at dksJ5_newTreeNode_0 7 rfl rfl)
theorem dJ5_newTreeNode_9 : decode cJ5_newTreeNode 9 = .ok (.invokespecial 378, 3) := dk_183 1 122 (dk_at dksJ5_newTreeNode_0 9 rfl rfl)
theorem dJ5_newTreeNode_12 : decode cJ5_newTreeNode 12 = .ok (.areturn, 1) := dk_176 (dk_at dksJ5_newTreeNode_0 12 rfl rfl)
abbrev cJ5_treeifyBin : ByteArray := prog_49_method_18_code
def yJ5_treeifyBin : MethodName := ⟨RJ5, "treeifyBin", "([Ljava/util/HashMap$Node;I)V"⟩
def dkwJ5_treeifyBin_4 : List UInt8 := [21, 4, 25, 6, 91, 83, 198, 0, 9, 25, 6, 43, 182, 0, 224, 177]
abbrev dktJ5_treeifyBin_4 : List UInt8 := dkwJ5_treeifyBin_4 ++ []
def dkwJ5_treeifyBin_3 : List UInt8 := [25, 7, 25, 8, 181, 0, 223, 25, 8, 58, 7, 25, 5, 180, 0, 177, 89, 58, 5, 199, 255, 209, 43]
abbrev dktJ5_treeifyBin_3 : List UInt8 := dkwJ5_treeifyBin_3 ++ dktJ5_treeifyBin_4
def dkwJ5_treeifyBin_2 : List UInt8 := [182, 0, 215, 58, 8, 25, 7, 199, 0, 10, 25, 8, 58, 6, 167, 0, 17, 25, 8, 25, 7, 181, 0, 219]
abbrev dktJ5_treeifyBin_2 : List UInt8 := dkwJ5_treeifyBin_2 ++ dktJ5_treeifyBin_3
def dkwJ5_treeifyBin_1 : List UInt8 := [100, 28, 126, 89, 54, 4, 50, 89, 58, 5, 198, 0, 75, 1, 58, 6, 1, 58, 7, 42, 25, 5, 1]
abbrev dktJ5_treeifyBin_1 : List UInt8 := dkwJ5_treeifyBin_1 ++ dktJ5_treeifyBin_2
def dkwJ5_treeifyBin_0 : List UInt8 := [43, 198, 0, 12, 43, 190, 89, 62, 16, 64, 162, 0, 11, 42, 182, 0, 117, 87, 167, 0, 91, 43, 29, 4]
abbrev dktJ5_treeifyBin_0 : List UInt8 := dkwJ5_treeifyBin_0 ++ dktJ5_treeifyBin_1
theorem dksJ5_treeifyBin_0 : cJ5_treeifyBin.data.toList.drop 0 = dktJ5_treeifyBin_0 := by decide +kernel
theorem dksJ5_treeifyBin_1 : cJ5_treeifyBin.data.toList.drop 24 = dktJ5_treeifyBin_1 := dk_seg dksJ5_treeifyBin_0 24 rfl rfl
theorem dksJ5_treeifyBin_2 : cJ5_treeifyBin.data.toList.drop 47 = dktJ5_treeifyBin_2 := dk_seg dksJ5_treeifyBin_1 23 rfl rfl
theorem dksJ5_treeifyBin_3 : cJ5_treeifyBin.data.toList.drop 71 = dktJ5_treeifyBin_3 := dk_seg dksJ5_treeifyBin_2 24 rfl rfl
theorem dksJ5_treeifyBin_4 : cJ5_treeifyBin.data.toList.drop 94 = dktJ5_treeifyBin_4 := dk_seg dksJ5_treeifyBin_3 23 rfl rfl
theorem dJ5_treeifyBin_0 : decode cJ5_treeifyBin 0 = .ok (.aload_n 1, 1) := dk_43 (dk_at dksJ5_treeifyBin_0 0 rfl rfl)
theorem dJ5_treeifyBin_1 : decode cJ5_treeifyBin 1 = .ok (.ifnull 12, 3) := dk_198 0 12 (dk_at dksJ5_treeifyBin_0 1 rfl rfl)
theorem dJ5_treeifyBin_4 : decode cJ5_treeifyBin 4 = .ok (.aload_n 1, 1) := dk_43 (dk_at dksJ5_treeifyBin_0 4 rfl rfl)
theorem dJ5_treeifyBin_5 : decode cJ5_treeifyBin 5 = .ok (.arraylength, 1) := dk_190 (dk_at dksJ5_treeifyBin_0 5 rfl rfl)
theorem dJ5_treeifyBin_6 : decode cJ5_treeifyBin 6 = .ok (.dup, 1) := dk_89 (dk_at dksJ5_treeifyBin_0 6 rfl rfl)
theorem dJ5_treeifyBin_7 : decode cJ5_treeifyBin 7 = .ok (.istore_n 3, 1) := dk_62 (dk_at dksJ5_treeifyBin_0 7 rfl rfl)
theorem dJ5_treeifyBin_8 : decode cJ5_treeifyBin 8 = .ok (.bipush 64, 2) := dk_16 64 (dk_at dksJ5_treeifyBin_0 8 rfl rfl)
theorem dJ5_treeifyBin_10 : decode cJ5_treeifyBin 10 = .ok (.if_icmp .ge 11, 3) := dk_162 0 11 (dk_at dksJ5_treeifyBin_0 10 rfl rfl)
theorem dJ5_treeifyBin_13 : decode cJ5_treeifyBin 13 = .ok (.aload_n 0, 1) := dk_42 (dk_at dksJ5_treeifyBin_0 13 rfl rfl)
theorem dJ5_treeifyBin_14 : decode cJ5_treeifyBin 14 = .ok (.invokevirtual 117, 3) := dk_182 0 117 (dk_at dksJ5_treeifyBin_0 14 rfl rfl)
theorem dJ5_treeifyBin_17 : decode cJ5_treeifyBin 17 = .ok (.pop, 1) := dk_87 (dk_at dksJ5_treeifyBin_0 17 rfl rfl)
theorem dJ5_treeifyBin_18 : decode cJ5_treeifyBin 18 = .ok (.goto 91, 3) := dk_167 0 91 (dk_at dksJ5_treeifyBin_0 18 rfl rfl)
theorem dJ5_treeifyBin_21 : decode cJ5_treeifyBin 21 = .ok (.aload_n 1, 1) := dk_43 (dk_at dksJ5_treeifyBin_0 21 rfl rfl)
theorem dJ5_treeifyBin_22 : decode cJ5_treeifyBin 22 = .ok (.iload_n 3, 1) := dk_29 (dk_at dksJ5_treeifyBin_0 22 rfl rfl)
theorem dJ5_treeifyBin_23 : decode cJ5_treeifyBin 23 = .ok (.iconst 1, 1) := dk_4 (dk_at dksJ5_treeifyBin_0 23 rfl rfl)
theorem dJ5_treeifyBin_24 : decode cJ5_treeifyBin 24 = .ok (.isub, 1) := dk_100 (dk_at dksJ5_treeifyBin_1 0 rfl rfl)
theorem dJ5_treeifyBin_25 : decode cJ5_treeifyBin 25 = .ok (.iload_n 2, 1) := dk_28 (dk_at dksJ5_treeifyBin_1 1 rfl rfl)
theorem dJ5_treeifyBin_26 : decode cJ5_treeifyBin 26 = .ok (.iand, 1) := dk_126 (dk_at dksJ5_treeifyBin_1 2 rfl rfl)
theorem dJ5_treeifyBin_27 : decode cJ5_treeifyBin 27 = .ok (.dup, 1) := dk_89 (dk_at dksJ5_treeifyBin_1 3 rfl rfl)
theorem dJ5_treeifyBin_28 : decode cJ5_treeifyBin 28 = .ok (.istore 4, 2) := dk_54 4 (dk_at dksJ5_treeifyBin_1 4 rfl rfl)
theorem dJ5_treeifyBin_30 : decode cJ5_treeifyBin 30 = .ok (.aaload, 1) := dk_50 (dk_at dksJ5_treeifyBin_1 6 rfl rfl)
theorem dJ5_treeifyBin_31 : decode cJ5_treeifyBin 31 = .ok (.dup, 1) := dk_89 (dk_at dksJ5_treeifyBin_1 7 rfl rfl)
theorem dJ5_treeifyBin_32 : decode cJ5_treeifyBin 32 = .ok (.astore 5, 2) := dk_58 5 (dk_at dksJ5_treeifyBin_1 8 rfl rfl)
theorem dJ5_treeifyBin_34 : decode cJ5_treeifyBin 34 = .ok (.ifnull 75, 3) := dk_198 0 75 (dk_at dksJ5_treeifyBin_1 10 rfl rfl)
theorem dJ5_treeifyBin_37 : decode cJ5_treeifyBin 37 = .ok (.aconst_null, 1) := dk_1 (dk_at dksJ5_treeifyBin_1 13 rfl rfl)
theorem dJ5_treeifyBin_38 : decode cJ5_treeifyBin 38 = .ok (.astore 6, 2) := dk_58 6 (dk_at dksJ5_treeifyBin_1 14 rfl rfl)
theorem dJ5_treeifyBin_40 : decode cJ5_treeifyBin 40 = .ok (.aconst_null, 1) := dk_1 (dk_at dksJ5_treeifyBin_1 16 rfl rfl)
theorem dJ5_treeifyBin_41 : decode cJ5_treeifyBin 41 = .ok (.astore 7, 2) := dk_58 7 (dk_at dksJ5_treeifyBin_1 17 rfl rfl)
theorem dJ5_treeifyBin_43 : decode cJ5_treeifyBin 43 = .ok (.aload_n 0, 1) := dk_42 (dk_at dksJ5_treeifyBin_1 19 rfl rfl)
theorem dJ5_treeifyBin_44 : decode cJ5_treeifyBin 44 = .ok (.aload 5, 2) := dk_25 5 (dk_at dksJ5_treeifyBin_1 20 rfl rfl)
theorem dJ5_treeifyBin_46 : decode cJ5_treeifyBin 46 = .ok (.aconst_null, 1) := dk_1 (dk_at dksJ5_treeifyBin_1 22 rfl rfl)
theorem dJ5_treeifyBin_47 : decode cJ5_treeifyBin 47 = .ok (.invokevirtual 215, 3) := dk_182 0 215 (dk_at dksJ5_treeifyBin_2 0 rfl rfl)
theorem dJ5_treeifyBin_50 : decode cJ5_treeifyBin 50 = .ok (.astore 8, 2) := dk_58 8 (dk_at dksJ5_treeifyBin_2 3 rfl rfl)
theorem dJ5_treeifyBin_52 : decode cJ5_treeifyBin 52 = .ok (.aload 7, 2) := dk_25 7 (dk_at dksJ5_treeifyBin_2 5 rfl rfl)
theorem dJ5_treeifyBin_54 : decode cJ5_treeifyBin 54 = .ok (.ifnonnull 10, 3) := dk_199 0 10 (dk_at dksJ5_treeifyBin_2 7 rfl rfl)
theorem dJ5_treeifyBin_57 : decode cJ5_treeifyBin 57 = .ok (.aload 8, 2) := dk_25 8 (dk_at dksJ5_treeifyBin_2 10 rfl rfl)
theorem dJ5_treeifyBin_59 : decode cJ5_treeifyBin 59 = .ok (.astore 6, 2) := dk_58 6 (dk_at dksJ5_treeifyBin_2 12 rfl rfl)
theorem dJ5_treeifyBin_61 : decode cJ5_treeifyBin 61 = .ok (.goto 17, 3) := dk_167 0 17 (dk_at dksJ5_treeifyBin_2 14 rfl rfl)
theorem dJ5_treeifyBin_64 : decode cJ5_treeifyBin 64 = .ok (.aload 8, 2) := dk_25 8 (dk_at dksJ5_treeifyBin_2 17 rfl rfl)
theorem dJ5_treeifyBin_66 : decode cJ5_treeifyBin 66 = .ok (.aload 7, 2) := dk_25 7 (dk_at dksJ5_treeifyBin_2 19 rfl rfl)
theorem dJ5_treeifyBin_68 : decode cJ5_treeifyBin 68 = .ok (.putfield 219, 3) := dk_181 0 219 (dk_at dksJ5_treeifyBin_2 21 rfl rfl)
theorem dJ5_treeifyBin_71 : decode cJ5_treeifyBin 71 = .ok (.aload 7, 2) := dk_25 7 (dk_at dksJ5_treeifyBin_3 0 rfl rfl)
theorem dJ5_treeifyBin_73 : decode cJ5_treeifyBin 73 = .ok (.aload 8, 2) := dk_25 8 (dk_at dksJ5_treeifyBin_3 2 rfl rfl)
theorem dJ5_treeifyBin_75 : decode cJ5_treeifyBin 75 = .ok (.putfield 223, 3) := dk_181 0 223 (dk_at dksJ5_treeifyBin_3 4 rfl rfl)
theorem dJ5_treeifyBin_78 : decode cJ5_treeifyBin 78 = .ok (.aload 8, 2) := dk_25 8 (dk_at dksJ5_treeifyBin_3 7 rfl rfl)
theorem dJ5_treeifyBin_80 : decode cJ5_treeifyBin 80 = .ok (.astore 7, 2) := dk_58 7 (dk_at dksJ5_treeifyBin_3 9 rfl rfl)
theorem dJ5_treeifyBin_82 : decode cJ5_treeifyBin 82 = .ok (.aload 5, 2) := dk_25 5 (dk_at dksJ5_treeifyBin_3 11 rfl rfl)
theorem dJ5_treeifyBin_84 : decode cJ5_treeifyBin 84 = .ok (.getfield 177, 3) := dk_180 0 177 (dk_at dksJ5_treeifyBin_3 13 rfl rfl)
theorem dJ5_treeifyBin_87 : decode cJ5_treeifyBin 87 = .ok (.dup, 1) := dk_89 (dk_at dksJ5_treeifyBin_3 16 rfl rfl)
theorem dJ5_treeifyBin_88 : decode cJ5_treeifyBin 88 = .ok (.astore 5, 2) := dk_58 5 (dk_at dksJ5_treeifyBin_3 17 rfl rfl)
theorem dJ5_treeifyBin_90 : decode cJ5_treeifyBin 90 = .ok (.ifnonnull (-47), 3) := dk_199 255 209 (dk_at dksJ5_treeifyBin_3 19 rfl rfl)
theorem dJ5_treeifyBin_93 : decode cJ5_treeifyBin 93 = .ok (.aload_n 1, 1) := dk_43 (dk_at dksJ5_treeifyBin_3 22 rfl rfl)
theorem dJ5_treeifyBin_94 : decode cJ5_treeifyBin 94 = .ok (.iload 4, 2) := dk_21 4 (dk_at dksJ5_treeifyBin_4 0 rfl rfl)
theorem dJ5_treeifyBin_96 : decode cJ5_treeifyBin 96 = .ok (.aload 6, 2) := dk_25 6 (dk_at dksJ5_treeifyBin_4 2 rfl rfl)
theorem dJ5_treeifyBin_98 : decode cJ5_treeifyBin 98 = .ok (.dup_x2, 1) := dk_91 (dk_at dksJ5_treeifyBin_4 4 rfl rfl)
theorem dJ5_treeifyBin_99 : decode cJ5_treeifyBin 99 = .ok (.aastore, 1) := dk_83 (dk_at dksJ5_treeifyBin_4 5 rfl rfl)
theorem dJ5_treeifyBin_100 : decode cJ5_treeifyBin 100 = .ok (.ifnull 9, 3) := dk_198 0 9 (dk_at dksJ5_treeifyBin_4 6 rfl rfl)
theorem dJ5_treeifyBin_103 : decode cJ5_treeifyBin 103 = .ok (.aload 6, 2) := dk_25 6 (dk_at dksJ5_treeifyBin_4 9 rfl rfl)
theorem dJ5_treeifyBin_105 : decode cJ5_treeifyBin 105 = .ok (.aload_n 1, 1) := dk_43 (dk_at dksJ5_treeifyBin_4 11 rfl rfl)
theorem dJ5_treeifyBin_106 : decode cJ5_treeifyBin 106 = .ok (.invokevirtual 224, 3) := dk_182 0 224 (dk_at dksJ5_treeifyBin_4 12 rfl rfl)
theorem dJ5_treeifyBin_109 : decode cJ5_treeifyBin 109 = .ok (.return_, 1) := dk_177 (dk_at dksJ5_treeifyBin_4 15 rfl rfl)
abbrev cJ5_replacementTreeNode : ByteArray := prog_49_method_49_code
def yJ5_replacementTreeNode : MethodName := ⟨RJ5, "replacementTreeNode", "(Ljava/util/HashMap$Node;Ljava/util/HashMap$Node;)Ljava/util/HashMap$TreeNode;"⟩
def dkwJ5_replacementTreeNode_0 : List UInt8 := [187, 0, 180, 89, 43, 180, 0, 168, 43, 180, 0, 170, 43, 180, 0, 162, 44, 183, 1, 122, 176]
abbrev dktJ5_replacementTreeNode_0 : List UInt8 := dkwJ5_replacementTreeNode_0 ++ []
theorem dksJ5_replacementTreeNode_0 : cJ5_replacementTreeNode.data.toList.drop 0 = dktJ5_replacementTreeNode_0 := by decide +kernel
theorem dJ5_replacementTreeNode_0 : decode cJ5_replacementTreeNode 0 = .ok (.new 180, 3) := dk_187 0 180 (dk_at dksJ5_replacementTreeNode_0 0 rfl rfl)
theorem dJ5_replacementTreeNode_3 : decode cJ5_replacementTreeNode 3 = .ok (.dup, 1) := dk_89 (dk_at dksJ5_replacementTreeNode_0 3 rfl rfl)
theorem dJ5_replacementTreeNode_4 : decode cJ5_replacementTreeNode 4 = .ok (.aload_n 1, 1) := dk_43 (dk_at dksJ5_replacementTreeNode_0 4 rfl rfl)
theorem dJ5_replacementTreeNode_5 : decode cJ5_replacementTreeNode 5 = .ok (.getfield 168, 3) := dk_180 0 168 (dk_at dksJ5_replacementTreeNode_0 5 rfl rfl)
theorem dJ5_replacementTreeNode_8 : decode cJ5_replacementTreeNode 8 = .ok (.aload_n 1, 1) := dk_43 (dk_at dksJ5_replacementTreeNode_0 8 rfl rfl)
theorem dJ5_replacementTreeNode_9 : decode cJ5_replacementTreeNode 9 = .ok (.getfield 170, 3) := dk_180 0 170 (dk_at dksJ5_replacementTreeNode_0 9 rfl rfl)
theorem dJ5_replacementTreeNode_12 : decode cJ5_replacementTreeNode 12 = .ok (.aload_n 1, 1) := dk_43 (dk_at dksJ5_replacementTreeNode_0 12 rfl rfl)
theorem dJ5_replacementTreeNode_13 : decode cJ5_replacementTreeNode 13 = .ok (.getfield 162, 3) := dk_180 0 162 (dk_at dksJ5_replacementTreeNode_0 13 rfl rfl)
theorem dJ5_replacementTreeNode_16 : decode cJ5_replacementTreeNode 16 = .ok (.aload_n 2, 1) := dk_44 (dk_at dksJ5_replacementTreeNode_0 16 rfl rfl)
theorem dJ5_replacementTreeNode_17 : decode cJ5_replacementTreeNode 17 = .ok (.invokespecial 378, 3) := dk_183 1 122 (dk_at dksJ5_replacementTreeNode_0 17 rfl rfl)
theorem dJ5_replacementTreeNode_20 : decode cJ5_replacementTreeNode 20 = .ok (.areturn, 1) := dk_176 (dk_at dksJ5_replacementTreeNode_0 20 rfl rfl)
abbrev cJ5_afterNodeAccess : ByteArray := prog_49_method_51_code
def yJ5_afterNodeAccess : MethodName := ⟨RJ5, "afterNodeAccess", "(Ljava/util/HashMap$Node;)V"⟩
theorem dJ5_afterNodeAccess_0 : decode cJ5_afterNodeAccess 0 = .ok (.return_, 1) := by decide +kernel
abbrev cJ5_afterNodeInsertion : ByteArray := prog_49_method_52_code
def yJ5_afterNodeInsertion : MethodName := ⟨RJ5, "afterNodeInsertion", "(Z)V"⟩
theorem dJ5_afterNodeInsertion_0 : decode cJ5_afterNodeInsertion 0 = .ok (.return_, 1) := by decide +kernel
abbrev cJ5_keySet : ByteArray := prog_49_method_24_code
def yJ5_keySet : MethodName := ⟨RJ5, "keySet", "()Ljava/util/Set;"⟩
def dkwJ5_keySet_1 : List UInt8 := [176]
abbrev dktJ5_keySet_1 : List UInt8 := dkwJ5_keySet_1 ++ []
def dkwJ5_keySet_0 : List UInt8 := [42, 180, 0, 239, 76, 43, 199, 0, 17, 187, 0, 243, 89, 42, 183, 0, 245, 76, 42, 43, 181, 0, 239, 43]
abbrev dktJ5_keySet_0 : List UInt8 := dkwJ5_keySet_0 ++ dktJ5_keySet_1
theorem dksJ5_keySet_0 : cJ5_keySet.data.toList.drop 0 = dktJ5_keySet_0 := by decide +kernel
theorem dksJ5_keySet_1 : cJ5_keySet.data.toList.drop 24 = dktJ5_keySet_1 := dk_seg dksJ5_keySet_0 24 rfl rfl
theorem dJ5_keySet_0 : decode cJ5_keySet 0 = .ok (.aload_n 0, 1) := dk_42 (dk_at dksJ5_keySet_0 0 rfl rfl)
theorem dJ5_keySet_1 : decode cJ5_keySet 1 = .ok (.getfield 239, 3) := dk_180 0 239 (dk_at dksJ5_keySet_0 1 rfl rfl)
theorem dJ5_keySet_4 : decode cJ5_keySet 4 = .ok (.astore_n 1, 1) := dk_76 (dk_at dksJ5_keySet_0 4 rfl rfl)
theorem dJ5_keySet_5 : decode cJ5_keySet 5 = .ok (.aload_n 1, 1) := dk_43 (dk_at dksJ5_keySet_0 5 rfl rfl)
theorem dJ5_keySet_6 : decode cJ5_keySet 6 = .ok (.ifnonnull 17, 3) := dk_199 0 17 (dk_at dksJ5_keySet_0 6 rfl rfl)
theorem dJ5_keySet_9 : decode cJ5_keySet 9 = .ok (.new 243, 3) := dk_187 0 243 (dk_at dksJ5_keySet_0 9 rfl rfl)
theorem dJ5_keySet_12 : decode cJ5_keySet 12 = .ok (.dup, 1) := dk_89 (dk_at dksJ5_keySet_0 12 rfl rfl)
theorem dJ5_keySet_13 : decode cJ5_keySet 13 = .ok (.aload_n 0, 1) := dk_42 (dk_at dksJ5_keySet_0 13 rfl rfl)
theorem dJ5_keySet_14 : decode cJ5_keySet 14 = .ok (.invokespecial 245, 3) := dk_183 0 245 (dk_at dksJ5_keySet_0 14 rfl rfl)
theorem dJ5_keySet_17 : decode cJ5_keySet 17 = .ok (.astore_n 1, 1) := dk_76 (dk_at dksJ5_keySet_0 17 rfl rfl)
theorem dJ5_keySet_18 : decode cJ5_keySet 18 = .ok (.aload_n 0, 1) := dk_42 (dk_at dksJ5_keySet_0 18 rfl rfl)
theorem dJ5_keySet_19 : decode cJ5_keySet 19 = .ok (.aload_n 1, 1) := dk_43 (dk_at dksJ5_keySet_0 19 rfl rfl)
theorem dJ5_keySet_20 : decode cJ5_keySet 20 = .ok (.putfield 239, 3) := dk_181 0 239 (dk_at dksJ5_keySet_0 20 rfl rfl)
theorem dJ5_keySet_23 : decode cJ5_keySet 23 = .ok (.aload_n 1, 1) := dk_43 (dk_at dksJ5_keySet_0 23 rfl rfl)
theorem dJ5_keySet_24 : decode cJ5_keySet 24 = .ok (.areturn, 1) := dk_176 (dk_at dksJ5_keySet_1 0 rfl rfl)
abbrev cJ5_get : ByteArray := prog_49_method_12_code
def yJ5_get : MethodName := ⟨RJ5, "get", "(Ljava/lang/Object;)Ljava/lang/Object;"⟩
def dkwJ5_get_0 : List UInt8 := [42, 43, 182, 0, 158, 89, 77, 199, 0, 7, 1, 167, 0, 7, 44, 180, 0, 162, 176]
abbrev dktJ5_get_0 : List UInt8 := dkwJ5_get_0 ++ []
theorem dksJ5_get_0 : cJ5_get.data.toList.drop 0 = dktJ5_get_0 := by decide +kernel
theorem dJ5_get_0 : decode cJ5_get 0 = .ok (.aload_n 0, 1) := dk_42 (dk_at dksJ5_get_0 0 rfl rfl)
theorem dJ5_get_1 : decode cJ5_get 1 = .ok (.aload_n 1, 1) := dk_43 (dk_at dksJ5_get_0 1 rfl rfl)
theorem dJ5_get_2 : decode cJ5_get 2 = .ok (.invokevirtual 158, 3) := dk_182 0 158 (dk_at dksJ5_get_0 2 rfl rfl)
theorem dJ5_get_5 : decode cJ5_get 5 = .ok (.dup, 1) := dk_89 (dk_at dksJ5_get_0 5 rfl rfl)
theorem dJ5_get_6 : decode cJ5_get 6 = .ok (.astore_n 2, 1) := dk_77 (dk_at dksJ5_get_0 6 rfl rfl)
theorem dJ5_get_7 : decode cJ5_get 7 = .ok (.ifnonnull 7, 3) := dk_199 0 7 (dk_at dksJ5_get_0 7 rfl rfl)
theorem dJ5_get_10 : decode cJ5_get 10 = .ok (.aconst_null, 1) := dk_1 (dk_at dksJ5_get_0 10 rfl rfl)
theorem dJ5_get_11 : decode cJ5_get 11 = .ok (.goto 7, 3) := dk_167 0 7 (dk_at dksJ5_get_0 11 rfl rfl)
theorem dJ5_get_14 : decode cJ5_get 14 = .ok (.aload_n 2, 1) := dk_44 (dk_at dksJ5_get_0 14 rfl rfl)
theorem dJ5_get_15 : decode cJ5_get 15 = .ok (.getfield 162, 3) := dk_180 0 162 (dk_at dksJ5_get_0 15 rfl rfl)
theorem dJ5_get_18 : decode cJ5_get 18 = .ok (.areturn, 1) := dk_176 (dk_at dksJ5_get_0 18 rfl rfl)
theorem q154 : (Jvm.Cond.initialized "java/util/HashMap") ∈ lw_all := lw_g (lw_at lw_m1 17 rfl) rfl
theorem q508 : (Jvm.Cond.instanceMethod ({ cls := "java/util/HashMap", name := "<init>", desc := "()V" } : Jvm.MethodName)) ∈ lw_all := lw_g (lw_at lw_m2 131 rfl) rfl
theorem q509 : (Jvm.Cond.code ({ cls := "java/util/HashMap", name := "<init>", desc := "()V" } : Jvm.MethodName) prog_49_method_7_code (1 : Nat) (Option.none : Option Jvm.ClassFile.FieldType)) ∈ lw_all := lw_g (lw_at lw_m2 132 rfl) rfl
theorem q510 : (Jvm.Cond.methodLink "java/util/HashMap" (43 : Nat) ({ cls := "java/util/AbstractMap", name := "<init>", desc := "()V" } : Jvm.MethodName)) ∈ lw_all := lw_g (lw_at lw_m2 133 rfl) rfl
theorem q514 : (Jvm.Cond.constantFloat "java/util/HashMap" (92 : Nat) (1061158912 : UInt32)) ∈ lw_all := lw_g (lw_at lw_m2 137 rfl) rfl
theorem q522 : (Jvm.Cond.fieldLink "java/util/HashMap" (105 : Nat) "java/util/HashMap" "table" "[Ljava/util/HashMap$Node;") ∈ lw_all := lw_g (lw_at lw_m2 145 rfl) rfl
theorem q524 : (Jvm.Cond.fieldLink "java/util/HashMap" (156 : Nat) "java/util/HashMap" "size" "I") ∈ lw_all := lw_g (lw_at lw_m2 147 rfl) rfl
theorem q529 : (Jvm.Cond.fieldLink "java/util/HashMap" (202 : Nat) "java/util/HashMap" "modCount" "I") ∈ lw_all := lw_g (lw_at lw_m2 152 rfl) rfl
theorem q530 : (Jvm.Cond.fieldLink "java/util/HashMap" (88 : Nat) "java/util/HashMap" "threshold" "I") ∈ lw_all := lw_g (lw_at lw_m2 153 rfl) rfl
theorem q531 : (Jvm.Cond.fieldLink "java/util/HashMap" (81 : Nat) "java/util/HashMap" "loadFactor" "F") ∈ lw_all := lw_g (lw_at lw_m2 154 rfl) rfl
theorem q532 : (Jvm.Cond.fieldLink "java/util/HashMap" (239 : Nat) "java/util/HashMap" "keySet" "Ljava/util/Set;") ∈ lw_all := lw_g (lw_at lw_m2 155 rfl) rfl
theorem q533 : (Jvm.Cond.sameField "java/util/HashMap" "java/util/AbstractMap" "keySet" "Ljava/util/Set;") ∈ lw_all := lw_g (lw_at lw_m2 156 rfl) rfl
theorem q545 : (Jvm.Cond.soleField "java/util/HashMap" "table") ∈ lw_all := lw_g (lw_at lw_m2 168 rfl) rfl
theorem q547 : (Jvm.Cond.soleField "java/util/HashMap" "entrySet") ∈ lw_all := lw_g (lw_at lw_m2 170 rfl) rfl
theorem q549 : (Jvm.Cond.soleField "java/util/HashMap" "size") ∈ lw_all := lw_g (lw_at lw_m2 172 rfl) rfl
theorem q551 : (Jvm.Cond.soleField "java/util/HashMap" "modCount") ∈ lw_all := lw_g (lw_at lw_m2 174 rfl) rfl
theorem q553 : (Jvm.Cond.soleField "java/util/HashMap" "threshold") ∈ lw_all := lw_g (lw_at lw_m2 176 rfl) rfl
theorem q555 : (Jvm.Cond.soleField "java/util/HashMap" "loadFactor") ∈ lw_all := lw_g (lw_at lw_m2 178 rfl) rfl
theorem q589 : (Jvm.Cond.declares ({ cls := "java/util/HashMap", name := "containsKey", desc := "(Ljava/lang/Object;)Z" } : Jvm.MethodName)) ∈ lw_tbl := lw_at lw_m2 212 rfl
theorem q591 : (Jvm.Cond.instanceMethod ({ cls := "java/util/HashMap", name := "containsKey", desc := "(Ljava/lang/Object;)Z" } : Jvm.MethodName)) ∈ lw_all := lw_g (lw_at lw_m2 214 rfl) rfl
theorem q592 : (Jvm.Cond.code ({ cls := "java/util/HashMap", name := "containsKey", desc := "(Ljava/lang/Object;)Z" } : Jvm.MethodName) prog_49_method_14_code (2 : Nat) (Option.some Jvm.ClassFile.FieldType.boolean)) ∈ lw_all := lw_g (lw_at lw_m2 215 rfl) rfl
theorem q593 : (Jvm.Cond.methodLink "java/util/HashMap" (158 : Nat) ({ cls := "java/util/HashMap", name := "getNode", desc := "(Ljava/lang/Object;)Ljava/util/HashMap$Node;" } : Jvm.MethodName)) ∈ lw_all := lw_g (lw_at lw_m2 216 rfl) rfl
theorem q594 : (Jvm.Cond.instanceMethod ({ cls := "java/util/HashMap", name := "getNode", desc := "(Ljava/lang/Object;)Ljava/util/HashMap$Node;" } : Jvm.MethodName)) ∈ lw_all := lw_g (lw_at lw_m2 217 rfl) rfl
theorem q595 : (Jvm.Cond.selects "java/util/HashMap" ({ cls := "java/util/HashMap", name := "getNode", desc := "(Ljava/lang/Object;)Ljava/util/HashMap$Node;" } : Jvm.MethodName) ({ cls := "java/util/HashMap", name := "getNode", desc := "(Ljava/lang/Object;)Ljava/util/HashMap$Node;" } : Jvm.MethodName)) ∈ lw_all := lw_g (lw_at lw_m2 218 rfl) rfl
theorem q596 : (Jvm.Cond.sameMethod "java/util/HashMap" "java/util/HashMap" "getNode" "(Ljava/lang/Object;)Ljava/util/HashMap$Node;") ∈ lw_all := lw_g (lw_at lw_m2 219 rfl) rfl
theorem q598 : (Jvm.Cond.code ({ cls := "java/util/HashMap", name := "getNode", desc := "(Ljava/lang/Object;)Ljava/util/HashMap$Node;" } : Jvm.MethodName) prog_49_method_13_code (8 : Nat) (Option.some (Jvm.ClassFile.FieldType.object "java/util/HashMap$Node"))) ∈ lw_all := lw_g (lw_at lw_m2 221 rfl) rfl
theorem q599 : (Jvm.Cond.methodLink "java/util/HashMap" (149 : Nat) ({ cls := "java/util/HashMap", name := "hash", desc := "(Ljava/lang/Object;)I" } : Jvm.MethodName)) ∈ lw_all := lw_g (lw_at lw_m2 222 rfl) rfl
theorem q600 : (Jvm.Cond.static ({ cls := "java/util/HashMap", name := "hash", desc := "(Ljava/lang/Object;)I" } : Jvm.MethodName)) ∈ lw_all := lw_g (lw_at lw_m2 223 rfl) rfl
theorem q601 : (Jvm.Cond.code ({ cls := "java/util/HashMap", name := "hash", desc := "(Ljava/lang/Object;)I" } : Jvm.MethodName) prog_49_method_1_code (2 : Nat) (Option.some Jvm.ClassFile.FieldType.int)) ∈ lw_all := lw_g (lw_at lw_m2 224 rfl) rfl
theorem q603 : (Jvm.Cond.methodLink "java/util/HashMap" (1 : Nat) ({ cls := "java/lang/Object", name := "hashCode", desc := "()I" } : Jvm.MethodName)) ∈ lw_all := lw_g (lw_at lw_m2 226 rfl) rfl
theorem q636 : (Jvm.Cond.declares ({ cls := "java/util/HashMap", name := "getNode", desc := "(Ljava/lang/Object;)Ljava/util/HashMap$Node;" } : Jvm.MethodName)) ∈ lw_tbl := lw_at lw_m3 19 rfl
theorem q665 : (Jvm.Cond.methodLink "java/util/HashMap" (173 : Nat) ({ cls := "java/lang/Object", name := "equals", desc := "(Ljava/lang/Object;)Z" } : Jvm.MethodName)) ∈ lw_all := lw_g (lw_at lw_m3 48 rfl) rfl
theorem q701 : (Jvm.Cond.declares ({ cls := "java/util/HashMap", name := "size", desc := "()I" } : Jvm.MethodName)) ∈ lw_tbl := lw_at lw_m3 84 rfl
theorem q703 : (Jvm.Cond.instanceMethod ({ cls := "java/util/HashMap", name := "size", desc := "()I" } : Jvm.MethodName)) ∈ lw_all := lw_g (lw_at lw_m3 86 rfl) rfl
theorem q704 : (Jvm.Cond.code ({ cls := "java/util/HashMap", name := "size", desc := "()I" } : Jvm.MethodName) prog_49_method_10_code (1 : Nat) (Option.some Jvm.ClassFile.FieldType.int)) ∈ lw_all := lw_g (lw_at lw_m3 87 rfl) rfl
theorem q730 : (Jvm.Cond.classLink "java/util/HashMap" (180 : Nat) "java/util/HashMap$TreeNode") ∈ lw_all := lw_g (lw_at lw_m3 113 rfl) rfl
theorem q731 : (Jvm.Cond.methodLink "java/util/HashMap" (182 : Nat) ({ cls := "java/util/HashMap$TreeNode", name := "getTreeNode", desc := "(ILjava/lang/Object;)Ljava/util/HashMap$TreeNode;" } : Jvm.MethodName)) ∈ lw_all := lw_g (lw_at lw_m3 114 rfl) rfl
theorem q745 : (Jvm.Cond.static ({ cls := "java/util/HashMap", name := "comparableClassFor", desc := "(Ljava/lang/Object;)Ljava/lang/Class;" } : Jvm.MethodName)) ∈ lw_all := lw_g (lw_at lw_m3 128 rfl) rfl
theorem q746 : (Jvm.Cond.code ({ cls := "java/util/HashMap", name := "comparableClassFor", desc := "(Ljava/lang/Object;)Ljava/lang/Class;" } : Jvm.MethodName) prog_49_method_2_code (9 : Nat) (Option.some (Jvm.ClassFile.FieldType.object "java/lang/Class"))) ∈ lw_all := lw_g (lw_at lw_m3 129 rfl) rfl
theorem q747 : (Jvm.Cond.classLink "java/util/HashMap" (7 : Nat) "java/lang/Comparable") ∈ lw_all := lw_g (lw_at lw_m3 130 rfl) rfl
theorem q748 : (Jvm.Cond.methodLink "java/util/HashMap" (9 : Nat) ({ cls := "java/lang/Object", name := "getClass", desc := "()Ljava/lang/Class;" } : Jvm.MethodName)) ∈ lw_all := lw_g (lw_at lw_m3 131 rfl) rfl
theorem q772 : (Jvm.Cond.selects "java/util/HashMap" ({ cls := "java/lang/Object", name := "getClass", desc := "()Ljava/lang/Class;" } : Jvm.MethodName) ({ cls := "java/lang/Object", name := "getClass", desc := "()Ljava/lang/Class;" } : Jvm.MethodName)) ∈ lw_all := lw_g (lw_at lw_m3 155 rfl) rfl
theorem q783 : (Jvm.Cond.classLink "java/util/HashMap" (13 : Nat) "java/lang/String") ∈ lw_all := lw_g (lw_at lw_m3 166 rfl) rfl
theorem q785 : (Jvm.Cond.static ({ cls := "java/util/HashMap", name := "compareComparables", desc := "(Ljava/lang/Class;Ljava/lang/Object;Ljava/lang/Object;)I" } : Jvm.MethodName)) ∈ lw_all := lw_g (lw_at lw_m3 168 rfl) rfl
theorem q786 : (Jvm.Cond.code ({ cls := "java/util/HashMap", name := "compareComparables", desc := "(Ljava/lang/Class;Ljava/lang/Object;Ljava/lang/Object;)I" } : Jvm.MethodName) prog_49_method_3_code (3 : Nat) (Option.some Jvm.ClassFile.FieldType.int)) ∈ lw_all := lw_g (lw_at lw_m3 169 rfl) rfl
theorem q787 : (Jvm.Cond.interfaceEntry "java/util/HashMap" (30 : Nat)) ∈ lw_tbl := lw_at lw_m3 170 rfl
theorem q788 : (Jvm.Cond.methodLink "java/util/HashMap" (30 : Nat) ({ cls := "java/lang/Comparable", name := "compareTo", desc := "(Ljava/lang/Object;)I" } : Jvm.MethodName)) ∈ lw_all := lw_g (lw_at lw_m3 171 rfl) rfl
theorem q811 : (Jvm.Cond.declares ({ cls := "java/util/HashMap", name := "put", desc := "(Ljava/lang/Object;Ljava/lang/Object;)Ljava/lang/Object;" } : Jvm.MethodName)) ∈ lw_tbl := lw_at lw_m3 194 rfl
theorem q813 : (Jvm.Cond.instanceMethod ({ cls := "java/util/HashMap", name := "put", desc := "(Ljava/lang/Object;Ljava/lang/Object;)Ljava/lang/Object;" } : Jvm.MethodName)) ∈ lw_all := lw_g (lw_at lw_m3 196 rfl) rfl
theorem q814 : (Jvm.Cond.code ({ cls := "java/util/HashMap", name := "put", desc := "(Ljava/lang/Object;Ljava/lang/Object;)Ljava/lang/Object;" } : Jvm.MethodName) prog_49_method_15_code (3 : Nat) (Option.some (Jvm.ClassFile.FieldType.object "java/lang/Object"))) ∈ lw_all := lw_g (lw_at lw_m3 197 rfl) rfl
theorem q815 : (Jvm.Cond.methodLink "java/util/HashMap" (152 : Nat) ({ cls := "java/util/HashMap", name := "putVal", desc := "(ILjava/lang/Object;Ljava/lang/Object;ZZ)Ljava/lang/Object;" } : Jvm.MethodName)) ∈ lw_all := lw_g (lw_at lw_m3 198 rfl) rfl
theorem q816 : (Jvm.Cond.instanceMethod ({ cls := "java/util/HashMap", name := "putVal", desc := "(ILjava/lang/Object;Ljava/lang/Object;ZZ)Ljava/lang/Object;" } : Jvm.MethodName)) ∈ lw_all := lw_g (lw_at lw_m3 199 rfl) rfl
theorem q817 : (Jvm.Cond.selects "java/util/HashMap" ({ cls := "java/util/HashMap", name := "putVal", desc := "(ILjava/lang/Object;Ljava/lang/Object;ZZ)Ljava/lang/Object;" } : Jvm.MethodName) ({ cls := "java/util/HashMap", name := "putVal", desc := "(ILjava/lang/Object;Ljava/lang/Object;ZZ)Ljava/lang/Object;" } : Jvm.MethodName)) ∈ lw_all := lw_g (lw_at lw_m3 200 rfl) rfl
theorem q818 : (Jvm.Cond.sameMethod "java/util/HashMap" "java/util/HashMap" "putVal" "(ILjava/lang/Object;Ljava/lang/Object;ZZ)Ljava/lang/Object;") ∈ lw_all := lw_g (lw_at lw_m3 201 rfl) rfl
theorem q820 : (Jvm.Cond.code ({ cls := "java/util/HashMap", name := "putVal", desc := "(ILjava/lang/Object;Ljava/lang/Object;ZZ)Ljava/lang/Object;" } : Jvm.MethodName) prog_49_method_16_code (13 : Nat) (Option.some (Jvm.ClassFile.FieldType.object "java/lang/Object"))) ∈ lw_all := lw_g (lw_at lw_m3 203 rfl) rfl
theorem q821 : (Jvm.Cond.methodLink "java/util/HashMap" (117 : Nat) ({ cls := "java/util/HashMap", name := "resize", desc := "()[Ljava/util/HashMap$Node;" } : Jvm.MethodName)) ∈ lw_all := lw_g (lw_at lw_m3 204 rfl) rfl
theorem q822 : (Jvm.Cond.instanceMethod ({ cls := "java/util/HashMap", name := "resize", desc := "()[Ljava/util/HashMap$Node;" } : Jvm.MethodName)) ∈ lw_all := lw_g (lw_at lw_m3 205 rfl) rfl
theorem q823 : (Jvm.Cond.selects "java/util/HashMap" ({ cls := "java/util/HashMap", name := "resize", desc := "()[Ljava/util/HashMap$Node;" } : Jvm.MethodName) ({ cls := "java/util/HashMap", name := "resize", desc := "()[Ljava/util/HashMap$Node;" } : Jvm.MethodName)) ∈ lw_all := lw_g (lw_at lw_m3 206 rfl) rfl
theorem q824 : (Jvm.Cond.sameMethod "java/util/HashMap" "java/util/HashMap" "resize" "()[Ljava/util/HashMap$Node;") ∈ lw_all := lw_g (lw_at lw_m3 207 rfl) rfl
theorem q826 : (Jvm.Cond.code ({ cls := "java/util/HashMap", name := "resize", desc := "()[Ljava/util/HashMap$Node;" } : Jvm.MethodName) prog_49_method_17_code (14 : Nat) (Option.some (Jvm.ClassFile.FieldType.array (Jvm.ClassFile.FieldType.object "java/util/HashMap$Node")))) ∈ lw_all := lw_g (lw_at lw_m3 209 rfl) rfl
theorem q827 : (Jvm.Cond.constant "java/util/HashMap" (42 : Nat) (1073741824 : Int32)) ∈ lw_all := lw_g (lw_at lw_m3 210 rfl) rfl
theorem q828 : (Jvm.Cond.constant "java/util/HashMap" (209 : Nat) (2147483647 : Int32)) ∈ lw_all := lw_g (lw_at lw_m3 211 rfl) rfl
theorem q829 : (Jvm.Cond.constantFloat "java/util/HashMap" (210 : Nat) (1317011456 : UInt32)) ∈ lw_all := lw_g (lw_at lw_m3 212 rfl) rfl
theorem q830 : (Jvm.Cond.classLink "java/util/HashMap" (163 : Nat) "java/util/HashMap$Node") ∈ lw_all := lw_g (lw_at lw_m3 213 rfl) rfl
theorem q832 : (Jvm.Cond.methodLink "java/util/HashMap" (211 : Nat) ({ cls := "java/util/HashMap$TreeNode", name := "split", desc := "(Ljava/util/HashMap;[Ljava/util/HashMap$Node;II)V" } : Jvm.MethodName)) ∈ lw_all := lw_g (lw_at lw_m3 215 rfl) rfl
theorem q842 : (Jvm.Cond.instanceMethod ({ cls := "java/util/HashMap", name := "replacementNode", desc := "(Ljava/util/HashMap$Node;Ljava/util/HashMap$Node;)Ljava/util/HashMap$Node;" } : Jvm.MethodName)) ∈ lw_all := lw_g (lw_at lw_m3 225 rfl) rfl
theorem q843 : (Jvm.Cond.selects "java/util/HashMap" ({ cls := "java/util/HashMap", name := "replacementNode", desc := "(Ljava/util/HashMap$Node;Ljava/util/HashMap$Node;)Ljava/util/HashMap$Node;" } : Jvm.MethodName) ({ cls := "java/util/HashMap", name := "replacementNode", desc := "(Ljava/util/HashMap$Node;Ljava/util/HashMap$Node;)Ljava/util/HashMap$Node;" } : Jvm.MethodName)) ∈ lw_all := lw_g (lw_at lw_m3 226 rfl) rfl
theorem q844 : (Jvm.Cond.sameMethod "java/util/HashMap" "java/util/HashMap" "replacementNode" "(Ljava/util/HashMap$Node;Ljava/util/HashMap$Node;)Ljava/util/HashMap$Node;") ∈ lw_all := lw_g (lw_at lw_m3 227 rfl) rfl
theorem q865 : (Jvm.Cond.fieldLink "java/util/HashMap" (168 : Nat) "java/util/HashMap$Node" "hash" "I") ∈ lw_all := lw_g (lw_at lw_m4 8 rfl) rfl
theorem q872 : (Jvm.Cond.fieldLink "java/util/HashMap" (170 : Nat) "java/util/HashMap$Node" "key" "Ljava/lang/Object;") ∈ lw_all := lw_g (lw_at lw_m4 15 rfl) rfl
theorem q876 : (Jvm.Cond.fieldLink "java/util/HashMap" (162 : Nat) "java/util/HashMap$Node" "value" "Ljava/lang/Object;") ∈ lw_all := lw_g (lw_at lw_m4 19 rfl) rfl
theorem q883 : (Jvm.Cond.fieldLink "java/util/HashMap" (177 : Nat) "java/util/HashMap$Node" "next" "Ljava/util/HashMap$Node;") ∈ lw_all := lw_g (lw_at lw_m4 26 rfl) rfl
theorem q884 : (Jvm.Cond.fieldLink "java/util/HashMap" (223 : Nat) "java/util/HashMap$TreeNode" "next" "Ljava/util/HashMap$Node;") ∈ lw_all := lw_g (lw_at lw_m4 27 rfl) rfl
theorem q902 : (Jvm.Cond.code ({ cls := "java/util/HashMap", name := "replacementNode", desc := "(Ljava/util/HashMap$Node;Ljava/util/HashMap$Node;)Ljava/util/HashMap$Node;" } : Jvm.MethodName) prog_49_method_47_code (3 : Nat) (Option.some (Jvm.ClassFile.FieldType.object "java/util/HashMap$Node"))) ∈ lw_all := lw_g (lw_at lw_m4 45 rfl) rfl
theorem q904 : (Jvm.Cond.methodLink "java/util/HashMap" (375 : Nat) ({ cls := "java/util/HashMap$Node", name := "<init>", desc := "(ILjava/lang/Object;Ljava/lang/Object;Ljava/util/HashMap$Node;)V" } : Jvm.MethodName)) ∈ lw_all := lw_g (lw_at lw_m4 47 rfl) rfl
theorem q928 : (Jvm.Cond.methodLink "java/util/HashMap" (186 : Nat) ({ cls := "java/util/HashMap", name := "newNode", desc := "(ILjava/lang/Object;Ljava/lang/Object;Ljava/util/HashMap$Node;)Ljava/util/HashMap$Node;" } : Jvm.MethodName)) ∈ lw_all := lw_g (lw_at lw_m4 71 rfl) rfl
theorem q929 : (Jvm.Cond.instanceMethod ({ cls := "java/util/HashMap", name := "newNode", desc := "(ILjava/lang/Object;Ljava/lang/Object;Ljava/util/HashMap$Node;)Ljava/util/HashMap$Node;" } : Jvm.MethodName)) ∈ lw_all := lw_g (lw_at lw_m4 72 rfl) rfl
theorem q930 : (Jvm.Cond.selects "java/util/HashMap" ({ cls := "java/util/HashMap", name := "newNode", desc := "(ILjava/lang/Object;Ljava/lang/Object;Ljava/util/HashMap$Node;)Ljava/util/HashMap$Node;" } : Jvm.MethodName) ({ cls := "java/util/HashMap", name := "newNode", desc := "(ILjava/lang/Object;Ljava/lang/Object;Ljava/util/HashMap$Node;)Ljava/util/HashMap$Node;" } : Jvm.MethodName)) ∈ lw_all := lw_g (lw_at lw_m4 73 rfl) rfl
theorem q931 : (Jvm.Cond.sameMethod "java/util/HashMap" "java/util/HashMap" "newNode" "(ILjava/lang/Object;Ljava/lang/Object;Ljava/util/HashMap$Node;)Ljava/util/HashMap$Node;") ∈ lw_all := lw_g (lw_at lw_m4 74 rfl) rfl
theorem q939 : (Jvm.Cond.code ({ cls := "java/util/HashMap", name := "newNode", desc := "(ILjava/lang/Object;Ljava/lang/Object;Ljava/util/HashMap$Node;)Ljava/util/HashMap$Node;" } : Jvm.MethodName) prog_49_method_46_code (5 : Nat) (Option.some (Jvm.ClassFile.FieldType.object "java/util/HashMap$Node"))) ∈ lw_all := lw_g (lw_at lw_m4 82 rfl) rfl
theorem q940 : (Jvm.Cond.methodLink "java/util/HashMap" (190 : Nat) ({ cls := "java/util/HashMap$TreeNode", name := "putTreeVal", desc := "(Ljava/util/HashMap;[Ljava/util/HashMap$Node;ILjava/lang/Object;Ljava/lang/Object;)Ljava/util/HashMap$TreeNode;" } : Jvm.MethodName)) ∈ lw_all := lw_g (lw_at lw_m4 83 rfl) rfl
theorem q945 : (Jvm.Cond.instanceMethod ({ cls := "java/util/HashMap", name := "newTreeNode", desc := "(ILjava/lang/Object;Ljava/lang/Object;Ljava/util/HashMap$Node;)Ljava/util/HashMap$TreeNode;" } : Jvm.MethodName)) ∈ lw_all := lw_g (lw_at lw_m4 88 rfl) rfl
theorem q946 : (Jvm.Cond.selects "java/util/HashMap" ({ cls := "java/util/HashMap", name := "newTreeNode", desc := "(ILjava/lang/Object;Ljava/lang/Object;Ljava/util/HashMap$Node;)Ljava/util/HashMap$TreeNode;" } : Jvm.MethodName) ({ cls := "java/util/HashMap", name := "newTreeNode", desc := "(ILjava/lang/Object;Ljava/lang/Object;Ljava/util/HashMap$Node;)Ljava/util/HashMap$TreeNode;" } : Jvm.MethodName)) ∈ lw_all := lw_g (lw_at lw_m4 89 rfl) rfl
theorem q947 : (Jvm.Cond.sameMethod "java/util/HashMap" "java/util/HashMap" "newTreeNode" "(ILjava/lang/Object;Ljava/lang/Object;Ljava/util/HashMap$Node;)Ljava/util/HashMap$TreeNode;") ∈ lw_all := lw_g (lw_at lw_m4 90 rfl) rfl
theorem q961 : (Jvm.Cond.fieldLink "java/util/HashMap" (219 : Nat) "java/util/HashMap$TreeNode" "prev" "Ljava/util/HashMap$TreeNode;") ∈ lw_all := lw_g (lw_at lw_m4 104 rfl) rfl
theorem q980 : (Jvm.Cond.code ({ cls := "java/util/HashMap", name := "newTreeNode", desc := "(ILjava/lang/Object;Ljava/lang/Object;Ljava/util/HashMap$Node;)Ljava/util/HashMap$TreeNode;" } : Jvm.MethodName) prog_49_method_48_code (5 : Nat) (Option.some (Jvm.ClassFile.FieldType.object "java/util/HashMap$TreeNode"))) ∈ lw_all := lw_g (lw_at lw_m4 123 rfl) rfl
theorem q981 : (Jvm.Cond.methodLink "java/util/HashMap" (378 : Nat) ({ cls := "java/util/HashMap$TreeNode", name := "<init>", desc := "(ILjava/lang/Object;Ljava/lang/Object;Ljava/util/HashMap$Node;)V" } : Jvm.MethodName)) ∈ lw_all := lw_g (lw_at lw_m4 124 rfl) rfl
theorem q982 : (Jvm.Cond.methodLink "java/util/HashMap" (194 : Nat) ({ cls := "java/util/HashMap", name := "treeifyBin", desc := "([Ljava/util/HashMap$Node;I)V" } : Jvm.MethodName)) ∈ lw_all := lw_g (lw_at lw_m4 125 rfl) rfl
theorem q983 : (Jvm.Cond.instanceMethod ({ cls := "java/util/HashMap", name := "treeifyBin", desc := "([Ljava/util/HashMap$Node;I)V" } : Jvm.MethodName)) ∈ lw_all := lw_g (lw_at lw_m4 126 rfl) rfl
theorem q984 : (Jvm.Cond.selects "java/util/HashMap" ({ cls := "java/util/HashMap", name := "treeifyBin", desc := "([Ljava/util/HashMap$Node;I)V" } : Jvm.MethodName) ({ cls := "java/util/HashMap", name := "treeifyBin", desc := "([Ljava/util/HashMap$Node;I)V" } : Jvm.MethodName)) ∈ lw_all := lw_g (lw_at lw_m4 127 rfl) rfl
theorem q985 : (Jvm.Cond.sameMethod "java/util/HashMap" "java/util/HashMap" "treeifyBin" "([Ljava/util/HashMap$Node;I)V") ∈ lw_all := lw_g (lw_at lw_m4 128 rfl) rfl
theorem q987 : (Jvm.Cond.code ({ cls := "java/util/HashMap", name := "treeifyBin", desc := "([Ljava/util/HashMap$Node;I)V" } : Jvm.MethodName) prog_49_method_18_code (9 : Nat) (Option.none : Option Jvm.ClassFile.FieldType)) ∈ lw_all := lw_g (lw_at lw_m4 130 rfl) rfl
theorem q988 : (Jvm.Cond.methodLink "java/util/HashMap" (215 : Nat) ({ cls := "java/util/HashMap", name := "replacementTreeNode", desc := "(Ljava/util/HashMap$Node;Ljava/util/HashMap$Node;)Ljava/util/HashMap$TreeNode;" } : Jvm.MethodName)) ∈ lw_all := lw_g (lw_at lw_m4 131 rfl) rfl
theorem q989 : (Jvm.Cond.instanceMethod ({ cls := "java/util/HashMap", name := "replacementTreeNode", desc := "(Ljava/util/HashMap$Node;Ljava/util/HashMap$Node;)Ljava/util/HashMap$TreeNode;" } : Jvm.MethodName)) ∈ lw_all := lw_g (lw_at lw_m4 132 rfl) rfl
theorem q990 : (Jvm.Cond.selects "java/util/HashMap" ({ cls := "java/util/HashMap", name := "replacementTreeNode", desc := "(Ljava/util/HashMap$Node;Ljava/util/HashMap$Node;)Ljava/util/HashMap$TreeNode;" } : Jvm.MethodName) ({ cls := "java/util/HashMap", name := "replacementTreeNode", desc := "(Ljava/util/HashMap$Node;Ljava/util/HashMap$Node;)Ljava/util/HashMap$TreeNode;" } : Jvm.MethodName)) ∈ lw_all := lw_g (lw_at lw_m4 133 rfl) rfl
theorem q991 : (Jvm.Cond.sameMethod "java/util/HashMap" "java/util/HashMap" "replacementTreeNode" "(Ljava/util/HashMap$Node;Ljava/util/HashMap$Node;)Ljava/util/HashMap$TreeNode;") ∈ lw_all := lw_g (lw_at lw_m4 134 rfl) rfl
theorem q995 : (Jvm.Cond.code ({ cls := "java/util/HashMap", name := "replacementTreeNode", desc := "(Ljava/util/HashMap$Node;Ljava/util/HashMap$Node;)Ljava/util/HashMap$TreeNode;" } : Jvm.MethodName) prog_49_method_49_code (3 : Nat) (Option.some (Jvm.ClassFile.FieldType.object "java/util/HashMap$TreeNode"))) ∈ lw_all := lw_g (lw_at lw_m4 138 rfl) rfl
theorem q996 : (Jvm.Cond.methodLink "java/util/HashMap" (224 : Nat) ({ cls := "java/util/HashMap$TreeNode", name := "treeify", desc := "([Ljava/util/HashMap$Node;)V" } : Jvm.MethodName)) ∈ lw_all := lw_g (lw_at lw_m4 139 rfl) rfl
theorem q997 : (Jvm.Cond.methodLink "java/util/HashMap" (198 : Nat) ({ cls := "java/util/HashMap", name := "afterNodeAccess", desc := "(Ljava/util/HashMap$Node;)V" } : Jvm.MethodName)) ∈ lw_all := lw_g (lw_at lw_m4 140 rfl) rfl
theorem q998 : (Jvm.Cond.instanceMethod ({ cls := "java/util/HashMap", name := "afterNodeAccess", desc := "(Ljava/util/HashMap$Node;)V" } : Jvm.MethodName)) ∈ lw_all := lw_g (lw_at lw_m4 141 rfl) rfl
theorem q999 : (Jvm.Cond.selects "java/util/HashMap" ({ cls := "java/util/HashMap", name := "afterNodeAccess", desc := "(Ljava/util/HashMap$Node;)V" } : Jvm.MethodName) ({ cls := "java/util/HashMap", name := "afterNodeAccess", desc := "(Ljava/util/HashMap$Node;)V" } : Jvm.MethodName)) ∈ lw_all := lw_g (lw_at lw_m4 142 rfl) rfl
theorem q1000 : (Jvm.Cond.sameMethod "java/util/HashMap" "java/util/HashMap" "afterNodeAccess" "(Ljava/util/HashMap$Node;)V") ∈ lw_all := lw_g (lw_at lw_m4 143 rfl) rfl
theorem q1002 : (Jvm.Cond.code ({ cls := "java/util/HashMap", name := "afterNodeAccess", desc := "(Ljava/util/HashMap$Node;)V" } : Jvm.MethodName) prog_49_method_51_code (2 : Nat) (Option.none : Option Jvm.ClassFile.FieldType)) ∈ lw_all := lw_g (lw_at lw_m4 145 rfl) rfl
theorem q1003 : (Jvm.Cond.methodLink "java/util/HashMap" (205 : Nat) ({ cls := "java/util/HashMap", name := "afterNodeInsertion", desc := "(Z)V" } : Jvm.MethodName)) ∈ lw_all := lw_g (lw_at lw_m4 146 rfl) rfl
theorem q1004 : (Jvm.Cond.instanceMethod ({ cls := "java/util/HashMap", name := "afterNodeInsertion", desc := "(Z)V" } : Jvm.MethodName)) ∈ lw_all := lw_g (lw_at lw_m4 147 rfl) rfl
theorem q1005 : (Jvm.Cond.selects "java/util/HashMap" ({ cls := "java/util/HashMap", name := "afterNodeInsertion", desc := "(Z)V" } : Jvm.MethodName) ({ cls := "java/util/HashMap", name := "afterNodeInsertion", desc := "(Z)V" } : Jvm.MethodName)) ∈ lw_all := lw_g (lw_at lw_m4 148 rfl) rfl
theorem q1006 : (Jvm.Cond.sameMethod "java/util/HashMap" "java/util/HashMap" "afterNodeInsertion" "(Z)V") ∈ lw_all := lw_g (lw_at lw_m4 149 rfl) rfl
theorem q1014 : (Jvm.Cond.code ({ cls := "java/util/HashMap", name := "afterNodeInsertion", desc := "(Z)V" } : Jvm.MethodName) prog_49_method_52_code (2 : Nat) (Option.none : Option Jvm.ClassFile.FieldType)) ∈ lw_all := lw_g (lw_at lw_m4 157 rfl) rfl
theorem q1091 : (Jvm.Cond.instanceMethod ({ cls := "java/util/HashMap", name := "keySet", desc := "()Ljava/util/Set;" } : Jvm.MethodName)) ∈ lw_all := lw_g (lw_at lw_m4 234 rfl) rfl
theorem q1092 : (Jvm.Cond.selects "java/util/HashMap" ({ cls := "java/util/HashMap", name := "keySet", desc := "()Ljava/util/Set;" } : Jvm.MethodName) ({ cls := "java/util/HashMap", name := "keySet", desc := "()Ljava/util/Set;" } : Jvm.MethodName)) ∈ lw_all := lw_g (lw_at lw_m4 235 rfl) rfl
theorem q1093 : (Jvm.Cond.sameMethod "java/util/HashMap" "java/util/HashMap" "keySet" "()Ljava/util/Set;") ∈ lw_all := lw_g (lw_at lw_m4 236 rfl) rfl
theorem q1095 : (Jvm.Cond.code ({ cls := "java/util/HashMap", name := "keySet", desc := "()Ljava/util/Set;" } : Jvm.MethodName) prog_49_method_24_code (2 : Nat) (Option.some (Jvm.ClassFile.FieldType.object "java/util/Set"))) ∈ lw_all := lw_g (lw_at lw_m4 238 rfl) rfl
theorem q1096 : (Jvm.Cond.classLink "java/util/HashMap" (243 : Nat) "java/util/HashMap$KeySet") ∈ lw_all := lw_g (lw_at lw_m4 239 rfl) rfl
theorem q1098 : (Jvm.Cond.methodLink "java/util/HashMap" (245 : Nat) ({ cls := "java/util/HashMap$KeySet", name := "<init>", desc := "(Ljava/util/HashMap;)V" } : Jvm.MethodName)) ∈ lw_all := lw_g (lw_at lw_m5 1 rfl) rfl
theorem q1798 : (Jvm.Cond.instantiable "java/util/HashMap" (8 : Nat)) ∈ lw_all := lw_g (lw_at lw_m7 221 rfl) rfl
theorem q1800 : (Jvm.Cond.lays "java/util/HashMap" "java/util/HashMap" "table" "[Ljava/util/HashMap$Node;") ∈ lw_all := lw_g (lw_at lw_m7 223 rfl) rfl
theorem q1801 : (Jvm.Cond.lays "java/util/HashMap" "java/util/HashMap" "entrySet" "Ljava/util/Set;") ∈ lw_all := lw_g (lw_at lw_m7 224 rfl) rfl
theorem q1802 : (Jvm.Cond.lays "java/util/HashMap" "java/util/HashMap" "size" "I") ∈ lw_all := lw_g (lw_at lw_m7 225 rfl) rfl
theorem q1803 : (Jvm.Cond.lays "java/util/HashMap" "java/util/HashMap" "modCount" "I") ∈ lw_all := lw_g (lw_at lw_m7 226 rfl) rfl
theorem q1804 : (Jvm.Cond.lays "java/util/HashMap" "java/util/HashMap" "threshold" "I") ∈ lw_all := lw_g (lw_at lw_m7 227 rfl) rfl
theorem q1805 : (Jvm.Cond.laysFinal "java/util/HashMap" "java/util/HashMap" "loadFactor" "F") ∈ lw_all := lw_g (lw_at lw_m7 228 rfl) rfl
theorem q1806 : (Jvm.Cond.lays "java/util/HashMap" "java/util/AbstractMap" "keySet" "Ljava/util/Set;") ∈ lw_all := lw_g (lw_at lw_m7 229 rfl) rfl
theorem q1807 : (Jvm.Cond.lays "java/util/HashMap" "java/util/AbstractMap" "values" "Ljava/util/Collection;") ∈ lw_all := lw_g (lw_at lw_m7 230 rfl) rfl
theorem q1808 : (Jvm.Cond.superclass "java/util/HashMap" "java/util/AbstractMap") ∈ lw_all := lw_g (lw_at lw_m7 231 rfl) rfl
theorem q1848 : (Jvm.Cond.instanceMethod ({ cls := "java/util/HashMap", name := "get", desc := "(Ljava/lang/Object;)Ljava/lang/Object;" } : Jvm.MethodName)) ∈ lw_all := lw_g (lw_at lw_m8 31 rfl) rfl
theorem q1849 : (Jvm.Cond.selects "java/util/HashMap" ({ cls := "java/util/HashMap", name := "get", desc := "(Ljava/lang/Object;)Ljava/lang/Object;" } : Jvm.MethodName) ({ cls := "java/util/HashMap", name := "get", desc := "(Ljava/lang/Object;)Ljava/lang/Object;" } : Jvm.MethodName)) ∈ lw_all := lw_g (lw_at lw_m8 32 rfl) rfl
theorem q1850 : (Jvm.Cond.sameMethod "java/util/HashMap" "java/util/HashMap" "get" "(Ljava/lang/Object;)Ljava/lang/Object;") ∈ lw_all := lw_g (lw_at lw_m8 33 rfl) rfl
theorem q1852 : (Jvm.Cond.code ({ cls := "java/util/HashMap", name := "get", desc := "(Ljava/lang/Object;)Ljava/lang/Object;" } : Jvm.MethodName) prog_49_method_12_code (3 : Nat) (Option.some (Jvm.ClassFile.FieldType.object "java/lang/Object"))) ∈ lw_all := lw_g (lw_at lw_m8 35 rfl) rfl
theorem q2720 : (Jvm.Cond.sameMethod "java/util/HashMap" "java/util/HashMap" "put" "(Ljava/lang/Object;Ljava/lang/Object;)Ljava/lang/Object;") ∈ lw_all := lw_g (lw_at lw_m11 183 rfl) rfl
theorem q2721 : (Jvm.Cond.selects "java/util/HashMap" ({ cls := "java/util/HashMap", name := "put", desc := "(Ljava/lang/Object;Ljava/lang/Object;)Ljava/lang/Object;" } : Jvm.MethodName) ({ cls := "java/util/HashMap", name := "put", desc := "(Ljava/lang/Object;Ljava/lang/Object;)Ljava/lang/Object;" } : Jvm.MethodName)) ∈ lw_all := lw_g (lw_at lw_m11 184 rfl) rfl
theorem q2723 : (Jvm.Cond.sameMethod "java/util/HashMap" "java/util/HashMap" "size" "()I") ∈ lw_all := lw_g (lw_at lw_m11 186 rfl) rfl
theorem q2724 : (Jvm.Cond.selects "java/util/HashMap" ({ cls := "java/util/HashMap", name := "size", desc := "()I" } : Jvm.MethodName) ({ cls := "java/util/HashMap", name := "size", desc := "()I" } : Jvm.MethodName)) ∈ lw_all := lw_g (lw_at lw_m11 187 rfl) rfl
theorem q2726 : (Jvm.Cond.sameMethod "java/util/HashMap" "java/util/HashMap" "containsKey" "(Ljava/lang/Object;)Z") ∈ lw_all := lw_g (lw_at lw_m11 189 rfl) rfl
theorem q2727 : (Jvm.Cond.selects "java/util/HashMap" ({ cls := "java/util/HashMap", name := "containsKey", desc := "(Ljava/lang/Object;)Z" } : Jvm.MethodName) ({ cls := "java/util/HashMap", name := "containsKey", desc := "(Ljava/lang/Object;)Z" } : Jvm.MethodName)) ∈ lw_all := lw_g (lw_at lw_m11 190 rfl) rfl
theorem q2766 : (Jvm.Cond.castable "java/util/HashMap" "java/lang/Object") ∈ lw_tbl := lw_at lw_m11 229 rfl
theorem in_J5 : ∀ w ∈ wsJ50, w ∈ lw_all := lw_in wsJ50 [1806, 1807, 1800, 1801, 1802, 1803, 1804, 1805] (by decide +kernel) (by decide +kernel)

/-! java/util/LinkedHashMap -/
set_option maxRecDepth 100000
def RJ6 : String := "java/util/LinkedHashMap"
def TJ6 : u_T := fun k => match k with
  | 0 => ("java/util/AbstractMap", "keySet", "Ljava/util/Set;", false)
  | 1 => ("java/util/AbstractMap", "values", "Ljava/util/Collection;", false)
  | 2 => ("java/util/HashMap", "table", "[Ljava/util/HashMap$Node;", false)
  | 3 => ("java/util/HashMap", "entrySet", "Ljava/util/Set;", false)
  | 4 => ("java/util/HashMap", "size", "I", false)
  | 5 => ("java/util/HashMap", "modCount", "I", false)
  | 6 => ("java/util/HashMap", "threshold", "I", false)
  | 7 => ("java/util/HashMap", "loadFactor", "F", true)
  | 8 => ("java/util/LinkedHashMap", "head", "Ljava/util/LinkedHashMap$Entry;", false)
  | 9 => ("java/util/LinkedHashMap", "tail", "Ljava/util/LinkedHashMap$Entry;", false)
  | 10 => ("java/util/LinkedHashMap", "accessOrder", "Z", true)
  | _ => ("java/util/LinkedHashMap", "putMode", "I", false)
def tyJ6 : Nat → FieldType := fun k => match k with
  | 0 => .object "java/util/Set"
  | 1 => .object "java/util/Collection"
  | 2 => .array (.object "java/util/HashMap$Node")
  | 3 => .object "java/util/Set"
  | 4 => .int
  | 5 => .int
  | 6 => .int
  | 7 => .float
  | 8 => .object "java/util/LinkedHashMap$Entry"
  | 9 => .object "java/util/LinkedHashMap$Entry"
  | 10 => .boolean
  | _ => .int
abbrev wsJ60 : List Cond := u_ws RJ6 TJ6 12
theorem nmJ6 : ∀ a, a < 12 → ∀ b, b < 12 → a ≠ b → (TJ6 a).2.1 ≠ (TJ6 b).2.1 := by decide +kernel
theorem tyJ6_ok : ∀ k, k < 12 → parseFieldDescriptor (TJ6 k).2.2.1 = some (tyJ6 k) := by decide +kernel
abbrev cJ6_init : ByteArray := prog_57_method_16_code
def yJ6_init : MethodName := ⟨RJ6, "<init>", "()V"⟩
def dkwJ6_init_0 : List UInt8 := [42, 183, 0, 87, 42, 3, 181, 0, 1, 42, 3, 181, 0, 64, 177]
abbrev dktJ6_init_0 : List UInt8 := dkwJ6_init_0 ++ []
theorem dksJ6_init_0 : cJ6_init.data.toList.drop 0 = dktJ6_init_0 := by decide +kernel
theorem dJ6_init_0 : decode cJ6_init 0 = .ok (.aload_n 0, 1) := dk_42 (dk_at dksJ6_init_0 0 rfl rfl)
theorem dJ6_init_1 : decode cJ6_init 1 = .ok (.invokespecial 87, 3) := dk_183 0 87 (dk_at dksJ6_init_0 1 rfl rfl)
theorem dJ6_init_4 : decode cJ6_init 4 = .ok (.aload_n 0, 1) := dk_42 (dk_at dksJ6_init_0 4 rfl rfl)
theorem dJ6_init_5 : decode cJ6_init 5 = .ok (.iconst 0, 1) := dk_3 (dk_at dksJ6_init_0 5 rfl rfl)
theorem dJ6_init_6 : decode cJ6_init 6 = .ok (.putfield 1, 3) := dk_181 0 1 (dk_at dksJ6_init_0 6 rfl rfl)
theorem dJ6_init_9 : decode cJ6_init 9 = .ok (.aload_n 0, 1) := dk_42 (dk_at dksJ6_init_0 9 rfl rfl)
theorem dJ6_init_10 : decode cJ6_init 10 = .ok (.iconst 0, 1) := dk_3 (dk_at dksJ6_init_0 10 rfl rfl)
theorem dJ6_init_11 : decode cJ6_init 11 = .ok (.putfield 64, 3) := dk_181 0 64 (dk_at dksJ6_init_0 11 rfl rfl)
theorem dJ6_init_14 : decode cJ6_init 14 = .ok (.return_, 1) := dk_177 (dk_at dksJ6_init_0 14 rfl rfl)
abbrev cJ6_get : ByteArray := prog_57_method_20_code
def yJ6_get : MethodName := ⟨RJ6, "get", "(Ljava/lang/Object;)Ljava/lang/Object;"⟩
def dkwJ6_get_1 : List UInt8 := [44, 180, 0, 107, 176]
abbrev dktJ6_get_1 : List UInt8 := dkwJ6_get_1 ++ []
def dkwJ6_get_0 : List UInt8 := [42, 43, 182, 0, 99, 89, 77, 199, 0, 5, 1, 176, 42, 180, 0, 64, 153, 0, 8, 42, 44, 182, 0, 103]
abbrev dktJ6_get_0 : List UInt8 := dkwJ6_get_0 ++ dktJ6_get_1
theorem dksJ6_get_0 : cJ6_get.data.toList.drop 0 = dktJ6_get_0 := by decide +kernel
theorem dksJ6_get_1 : cJ6_get.data.toList.drop 24 = dktJ6_get_1 := dk_seg dksJ6_get_0 24 rfl rfl
theorem dJ6_get_0 : decode cJ6_get 0 = .ok (.aload_n 0, 1) := dk_42 (dk_at dksJ6_get_0 0 rfl rfl)
theorem dJ6_get_1 : decode cJ6_get 1 = .ok (.aload_n 1, 1) := dk_43 (dk_at dksJ6_get_0 1 rfl rfl)
theorem dJ6_get_2 : decode cJ6_get 2 = .ok (.invokevirtual 99, 3) := dk_182 0 99 (dk_at dksJ6_get_0 2 rfl rfl)
theorem dJ6_get_5 : decode cJ6_get 5 = .ok (.dup, 1) := dk_89 (dk_at dksJ6_get_0 5 rfl rfl)
theorem dJ6_get_6 : decode cJ6_get 6 = .ok (.astore_n 2, 1) := dk_77 (dk_at dksJ6_get_0 6 rfl rfl)
theorem dJ6_get_7 : decode cJ6_get 7 = .ok (.ifnonnull 5, 3) := dk_199 0 5 (dk_at dksJ6_get_0 7 rfl rfl)
theorem dJ6_get_10 : decode cJ6_get 10 = .ok (.aconst_null, 1) := dk_1 (dk_at dksJ6_get_0 10 rfl rfl)
theorem dJ6_get_11 : decode cJ6_get 11 = .ok (.areturn, 1) := dk_176 (dk_at dksJ6_get_0 11 rfl rfl)
theorem dJ6_get_12 : decode cJ6_get 12 = .ok (.aload_n 0, 1) := dk_42 (dk_at dksJ6_get_0 12 rfl rfl)
theorem dJ6_get_13 : decode cJ6_get 13 = .ok (.getfield 64, 3) := dk_180 0 64 (dk_at dksJ6_get_0 13 rfl rfl)
theorem dJ6_get_16 : decode cJ6_get 16 = .ok (.ifCond .eq 8, 3) := dk_153 0 8 (dk_at dksJ6_get_0 16 rfl rfl)
theorem dJ6_get_19 : decode cJ6_get 19 = .ok (.aload_n 0, 1) := dk_42 (dk_at dksJ6_get_0 19 rfl rfl)
theorem dJ6_get_20 : decode cJ6_get 20 = .ok (.aload_n 2, 1) := dk_44 (dk_at dksJ6_get_0 20 rfl rfl)
theorem dJ6_get_21 : decode cJ6_get 21 = .ok (.invokevirtual 103, 3) := dk_182 0 103 (dk_at dksJ6_get_0 21 rfl rfl)
theorem dJ6_get_24 : decode cJ6_get 24 = .ok (.aload_n 2, 1) := dk_44 (dk_at dksJ6_get_1 0 rfl rfl)
theorem dJ6_get_25 : decode cJ6_get 25 = .ok (.getfield 107, 3) := dk_180 0 107 (dk_at dksJ6_get_1 1 rfl rfl)
theorem dJ6_get_28 : decode cJ6_get 28 = .ok (.areturn, 1) := dk_176 (dk_at dksJ6_get_1 4 rfl rfl)
abbrev cJ6_afterNodeAccess : ByteArray := prog_57_method_10_code
def yJ6_afterNodeAccess : MethodName := ⟨RJ6, "afterNodeAccess", "(Ljava/util/HashMap$Node;)V"⟩
def dkwJ6_afterNodeAccess_11 : List UInt8 := [181, 0, 7, 42, 89, 180, 0, 68, 4, 96, 181, 0, 68, 177]
abbrev dktJ6_afterNodeAccess_11 : List UInt8 := dkwJ6_afterNodeAccess_11 ++ []
def dkwJ6_afterNodeAccess_10 : List UInt8 := [25, 4, 181, 0, 11, 167, 0, 15, 25, 4, 45, 181, 0, 14, 45, 25, 4, 181, 0, 19, 42, 25, 4]
abbrev dktJ6_afterNodeAccess_10 : List UInt8 := dkwJ6_afterNodeAccess_10 ++ dktJ6_afterNodeAccess_11
def dkwJ6_afterNodeAccess_9 : List UInt8 := [25, 5, 198, 0, 13, 25, 5, 25, 6, 181, 0, 14, 167, 0, 6, 25, 6, 78, 45, 199, 0, 12, 42]
abbrev dktJ6_afterNodeAccess_9 : List UInt8 := dkwJ6_afterNodeAccess_9 ++ dktJ6_afterNodeAccess_10
def dkwJ6_afterNodeAccess_8 : List UInt8 := [181, 0, 19, 25, 6, 199, 0, 12, 42, 25, 5, 181, 0, 11, 167, 0, 10, 25, 6, 25, 5, 181, 0, 19]
abbrev dktJ6_afterNodeAccess_8 : List UInt8 := dkwJ6_afterNodeAccess_8 ++ dktJ6_afterNodeAccess_9
def dkwJ6_afterNodeAccess_7 : List UInt8 := [43, 192, 0, 15, 58, 4, 25, 4, 180, 0, 19, 58, 5, 25, 4, 180, 0, 14, 58, 6, 25, 4, 1]
abbrev dktJ6_afterNodeAccess_7 : List UInt8 := dkwJ6_afterNodeAccess_7 ++ dktJ6_afterNodeAccess_8
def dkwJ6_afterNodeAccess_6 : List UInt8 := [181, 0, 68, 167, 0, 127, 42, 180, 0, 1, 4, 160, 0, 119, 42, 180, 0, 7, 89, 78, 43, 165, 0, 109]
abbrev dktJ6_afterNodeAccess_6 : List UInt8 := dkwJ6_afterNodeAccess_6 ++ dktJ6_afterNodeAccess_7
def dkwJ6_afterNodeAccess_5 : List UInt8 := [181, 0, 19, 44, 25, 4, 181, 0, 14, 42, 25, 4, 181, 0, 11, 42, 89, 180, 0, 68, 4, 96]
abbrev dktJ6_afterNodeAccess_5 : List UInt8 := dkwJ6_afterNodeAccess_5 ++ dktJ6_afterNodeAccess_6
def dkwJ6_afterNodeAccess_4 : List UInt8 := [167, 0, 6, 25, 5, 77, 44, 199, 0, 12, 42, 25, 4, 181, 0, 7, 167, 0, 15, 25, 4, 44]
abbrev dktJ6_afterNodeAccess_4 : List UInt8 := dkwJ6_afterNodeAccess_4 ++ dktJ6_afterNodeAccess_5
def dkwJ6_afterNodeAccess_3 : List UInt8 := [167, 0, 10, 25, 5, 25, 6, 181, 0, 14, 25, 6, 198, 0, 13, 25, 6, 25, 5, 181, 0, 19]
abbrev dktJ6_afterNodeAccess_3 : List UInt8 := dkwJ6_afterNodeAccess_3 ++ dktJ6_afterNodeAccess_4
def dkwJ6_afterNodeAccess_2 : List UInt8 := [180, 0, 14, 58, 6, 25, 4, 1, 181, 0, 14, 25, 5, 199, 0, 12, 42, 25, 6, 181, 0, 7]
abbrev dktJ6_afterNodeAccess_2 : List UInt8 := dkwJ6_afterNodeAccess_2 ++ dktJ6_afterNodeAccess_3
def dkwJ6_afterNodeAccess_1 : List UInt8 := [180, 0, 11, 89, 77, 43, 165, 0, 112, 43, 192, 0, 15, 58, 4, 25, 4, 180, 0, 19, 58, 5, 25, 4]
abbrev dktJ6_afterNodeAccess_1 : List UInt8 := dkwJ6_afterNodeAccess_1 ++ dktJ6_afterNodeAccess_2
def dkwJ6_afterNodeAccess_0 : List UInt8 := [42, 180, 0, 1, 5, 159, 0, 17, 42, 180, 0, 1, 154, 0, 129, 42, 180, 0, 64, 153, 0, 122, 42]
abbrev dktJ6_afterNodeAccess_0 : List UInt8 := dkwJ6_afterNodeAccess_0 ++ dktJ6_afterNodeAccess_1
theorem dksJ6_afterNodeAccess_0 : cJ6_afterNodeAccess.data.toList.drop 0 = dktJ6_afterNodeAccess_0 := by decide +kernel
theorem dksJ6_afterNodeAccess_1 : cJ6_afterNodeAccess.data.toList.drop 23 = dktJ6_afterNodeAccess_1 := dk_seg dksJ6_afterNodeAccess_0 23 rfl rfl
theorem dksJ6_afterNodeAccess_2 : cJ6_afterNodeAccess.data.toList.drop 47 = dktJ6_afterNodeAccess_2 := dk_seg dksJ6_afterNodeAccess_1 24 rfl rfl
theorem dksJ6_afterNodeAccess_3 : cJ6_afterNodeAccess.data.toList.drop 69 = dktJ6_afterNodeAccess_3 := dk_seg dksJ6_afterNodeAccess_2 22 rfl rfl
theorem dksJ6_afterNodeAccess_4 : cJ6_afterNodeAccess.data.toList.drop 91 = dktJ6_afterNodeAccess_4 := dk_seg dksJ6_afterNodeAccess_3 22 rfl rfl
theorem dksJ6_afterNodeAccess_5 : cJ6_afterNodeAccess.data.toList.drop 113 = dktJ6_afterNodeAccess_5 := dk_seg dksJ6_afterNodeAccess_4 22 rfl rfl
theorem dksJ6_afterNodeAccess_6 : cJ6_afterNodeAccess.data.toList.drop 135 = dktJ6_afterNodeAccess_6 := dk_seg dksJ6_afterNodeAccess_5 22 rfl rfl
theorem dksJ6_afterNodeAccess_7 : cJ6_afterNodeAccess.data.toList.drop 159 = dktJ6_afterNodeAccess_7 := dk_seg dksJ6_afterNodeAccess_6 24 rfl rfl
theorem dksJ6_afterNodeAccess_8 : cJ6_afterNodeAccess.data.toList.drop 182 = dktJ6_afterNodeAccess_8 := dk_seg dksJ6_afterNodeAccess_7 23 rfl rfl
theorem dksJ6_afterNodeAccess_9 : cJ6_afterNodeAccess.data.toList.drop 206 = dktJ6_afterNodeAccess_9 := dk_seg dksJ6_afterNodeAccess_8 24 rfl rfl
theorem dksJ6_afterNodeAccess_10 : cJ6_afterNodeAccess.data.toList.drop 229 = dktJ6_afterNodeAccess_10 := dk_seg dksJ6_afterNodeAccess_9 23 rfl rfl
theorem dksJ6_afterNodeAccess_11 : cJ6_afterNodeAccess.data.toList.drop 252 = dktJ6_afterNodeAccess_11 := dk_seg dksJ6_afterNodeAccess_10 23 rfl rfl
theorem dJ6_afterNodeAccess_0 : decode cJ6_afterNodeAccess 0 = .ok (.aload_n 0, 1) := dk_42 (dk_at dksJ6_afterNodeAccess_0 0 rfl rfl)
theorem dJ6_afterNodeAccess_1 : decode cJ6_afterNodeAccess 1 = .ok (.getfield 1, 3) := dk_180 0 1 (dk_at dksJ6_afterNodeAccess_0 1 rfl rfl)
theorem dJ6_afterNodeAccess_4 : decode cJ6_afterNodeAccess 4 = .ok (.iconst 2, 1) := dk_5 (dk_at dksJ6_afterNodeAccess_0 4 rfl rfl)
theorem dJ6_afterNodeAccess_5 : decode cJ6_afterNodeAccess 5 = .ok (.if_icmp .eq 17, 3) := dk_159 0 17 (dk_at dksJ6_afterNodeAccess_0 5 rfl rfl)
theorem dJ6_afterNodeAccess_8 : decode cJ6_afterNodeAccess 8 = .ok (.aload_n 0, 1) := dk_42 (dk_at dksJ6_afterNodeAccess_0 8 rfl rfl)
theorem dJ6_afterNodeAccess_9 : decode cJ6_afterNodeAccess 9 = .ok (.getfield 1, 3) := dk_180 0 1 (dk_at dksJ6_afterNodeAccess_0 9 rfl rfl)
theorem dJ6_afterNodeAccess_12 : decode cJ6_afterNodeAccess 12 = .ok (.ifCond .ne 129, 3) := dk_154 0 129 (dk_at dksJ6_afterNodeAccess_0 12 rfl rfl)
theorem dJ6_afterNodeAccess_15 : decode cJ6_afterNodeAccess 15 = .ok (.aload_n 0, 1) := dk_42 (dk_at dksJ6_afterNodeAccess_0 15 rfl rfl)
theorem dJ6_afterNodeAccess_16 : decode cJ6_afterNodeAccess 16 = .ok (.getfield 64, 3) := dk_180 0 64 (dk_at dksJ6_afterNodeAccess_0 16 rfl rfl)
theorem dJ6_afterNodeAccess_19 : decode cJ6_afterNodeAccess 19 = .ok (.ifCond .eq 122, 3) := dk_153 0 122 (dk_at dksJ6_afterNodeAccess_0 19 rfl rfl)
theorem dJ6_afterNodeAccess_22 : decode cJ6_afterNodeAccess 22 = .ok (.aload_n 0, 1) := dk_42 (dk_at dksJ6_afterNodeAccess_0 22 rfl rfl)
theorem dJ6_afterNodeAccess_23 : decode cJ6_afterNodeAccess 23 = .ok (.getfield 11, 3) := dk_180 0 11 (dk_at dksJ6_afterNodeAccess_1 0 rfl rfl)
theorem dJ6_afterNodeAccess_26 : decode cJ6_afterNodeAccess 26 = .ok (.dup, 1) := dk_89 (dk_at dksJ6_afterNodeAccess_1 3 rfl rfl)
theorem dJ6_afterNodeAccess_27 : decode cJ6_afterNodeAccess 27 = .ok (.astore_n 2, 1) := dk_77 (dk_at dksJ6_afterNodeAccess_1 4 rfl rfl)
theorem dJ6_afterNodeAccess_28 : decode cJ6_afterNodeAccess 28 = .ok (.aload_n 1, 1) := dk_43 (dk_at dksJ6_afterNodeAccess_1 5 rfl rfl)
theorem dJ6_afterNodeAccess_29 : decode cJ6_afterNodeAccess 29 = .ok (.if_acmp .eq 112, 3) := dk_165 0 112 (dk_at dksJ6_afterNodeAccess_1 6 rfl rfl)
theorem dJ6_afterNodeAccess_32 : decode cJ6_afterNodeAccess 32 = .ok (.aload_n 1, 1) := dk_43 (dk_at dksJ6_afterNodeAccess_1 9 rfl rfl)
theorem dJ6_afterNodeAccess_33 : decode cJ6_afterNodeAccess 33 = .ok (.checkcast 15, 3) := dk_192 0 15 (dk_at dksJ6_afterNodeAccess_1 10 rfl rfl)
theorem dJ6_afterNodeAccess_36 : decode cJ6_afterNodeAccess 36 = .ok (.astore 4, 2) := dk_58 4 (dk_at dksJ6_afterNodeAccess_1 13 rfl rfl)
theorem dJ6_afterNodeAccess_38 : decode cJ6_afterNodeAccess 38 = .ok (.aload 4, 2) := dk_25 4 (dk_at dksJ6_afterNodeAccess_1 15 rfl rfl)
theorem dJ6_afterNodeAccess_40 : decode cJ6_afterNodeAccess 40 = .ok (.getfield 19, 3) := dk_180 0 19 (dk_at dksJ6_afterNodeAccess_1 17 rfl rfl)
theorem dJ6_afterNodeAccess_43 : decode cJ6_afterNodeAccess 43 = .ok (.astore 5, 2) := dk_58 5 (dk_at dksJ6_afterNodeAccess_1 20 rfl rfl)
theorem dJ6_afterNodeAccess_45 : decode cJ6_afterNodeAccess 45 = .ok (.aload 4, 2) := dk_25 4 (dk_at dksJ6_afterNodeAccess_1 22 rfl rfl)
theorem dJ6_afterNodeAccess_47 : decode cJ6_afterNodeAccess 47 = .ok (.getfield 14, 3) := dk_180 0 14 (dk_at dksJ6_afterNodeAccess_2 0 rfl rfl)
theorem dJ6_afterNodeAccess_50 : decode cJ6_afterNodeAccess 50 = .ok (.astore 6, 2) := dk_58 6 (dk_at dksJ6_afterNodeAccess_2 3 rfl rfl)
theorem dJ6_afterNodeAccess_52 : decode cJ6_afterNodeAccess 52 = .ok (.aload 4, 2) := dk_25 4 (dk_at dksJ6_afterNodeAccess_2 5 rfl rfl)
theorem dJ6_afterNodeAccess_54 : decode cJ6_afterNodeAccess 54 = .ok (.aconst_null, 1) := dk_1 (dk_at dksJ6_afterNodeAccess_2 7 rfl rfl)
theorem dJ6_afterNodeAccess_55 : decode cJ6_afterNodeAccess 55 = .ok (.putfield 14, 3) := dk_181 0 14 (dk_at dksJ6_afterNodeAccess_2 8 rfl rfl)
theorem dJ6_afterNodeAccess_58 : decode cJ6_afterNodeAccess 58 = .ok (.aload 5, 2) := dk_25 5 (dk_at dksJ6_afterNodeAccess_2 11 rfl rfl)
theorem dJ6_afterNodeAccess_60 : decode cJ6_afterNodeAccess 60 = .ok (.ifnonnull 12, 3) := dk_199 0 12 (dk_at dksJ6_afterNodeAccess_2 13 rfl rfl)
theorem dJ6_afterNodeAccess_63 : decode cJ6_afterNodeAccess 63 = .ok (.aload_n 0, 1) := dk_42 (dk_at dksJ6_afterNodeAccess_2 16 rfl rfl)
theorem dJ6_afterNodeAccess_64 : decode cJ6_afterNodeAccess 64 = .ok (.aload 6, 2) := dk_25 6 (dk_at dksJ6_afterNodeAccess_2 17 rfl rfl)
theorem dJ6_afterNodeAccess_66 : decode cJ6_afterNodeAccess 66 = .ok (.putfield 7, 3) := dk_181 0 7 (dk_at dksJ6_afterNodeAccess_2 19 rfl rfl)
theorem dJ6_afterNodeAccess_69 : decode cJ6_afterNodeAccess 69 = .ok (.goto 10, 3) := dk_167 0 10 (dk_at dksJ6_afterNodeAccess_3 0 rfl rfl)
theorem dJ6_afterNodeAccess_72 : decode cJ6_afterNodeAccess 72 = .ok (.aload 5, 2) := dk_25 5 (dk_at dksJ6_afterNodeAccess_3 3 rfl rfl)
theorem dJ6_afterNodeAccess_74 : decode cJ6_afterNodeAccess 74 = .ok (.aload 6, 2) := dk_25 6 (dk_at dksJ6_afterNodeAccess_3 5 rfl rfl)
theorem dJ6_afterNodeAccess_76 : decode cJ6_afterNodeAccess 76 = .ok (.putfield 14, 3) := dk_181 0 14 (dk_at dksJ6_afterNodeAccess_3 7 rfl rfl)
theorem dJ6_afterNodeAccess_79 : decode cJ6_afterNodeAccess 79 = .ok (.aload 6, 2) := dk_25 6 (dk_at dksJ6_afterNodeAccess_3 10 rfl rfl)
theorem dJ6_afterNodeAccess_81 : decode cJ6_afterNodeAccess 81 = .ok (.ifnull 13, 3) := dk_198 0 13 (dk_at dksJ6_afterNodeAccess_3 12 rfl rfl)
theorem dJ6_afterNodeAccess_84 : decode cJ6_afterNodeAccess 84 = .ok (.aload 6, 2) := dk_25 6 (dk_at dksJ6_afterNodeAccess_3 15 rfl rfl)
theorem dJ6_afterNodeAccess_86 : decode cJ6_afterNodeAccess 86 = .ok (.aload 5, 2) := dk_25 5 (dk_at dksJ6_afterNodeAccess_3 17 rfl rfl)
theorem dJ6_afterNodeAccess_88 : decode cJ6_afterNodeAccess 88 = .ok (.putfield 19, 3) := dk_181 0 19 (dk_at dksJ6_afterNodeAccess_3 19 rfl rfl)
theorem dJ6_afterNodeAccess_91 : decode cJ6_afterNodeAccess 91 = .ok (.goto 6, 3) := dk_167 0 6 (dk_at dksJ6_afterNodeAccess_4 0 rfl rfl)
theorem dJ6_afterNodeAccess_94 : decode cJ6_afterNodeAccess 94 = .ok (.aload 5, 2) := dk_25 5 (dk_at dksJ6_afterNodeAccess_4 3 rfl rfl)
theorem dJ6_afterNodeAccess_96 : decode cJ6_afterNodeAccess 96 = .ok (.astore_n 2, 1) := dk_77 (dk_at dksJ6_afterNodeAccess_4 5 rfl rfl)
theorem dJ6_afterNodeAccess_97 : decode cJ6_afterNodeAccess 97 = .ok (.aload_n 2, 1) := dk_44 (dk_at dksJ6_afterNodeAccess_4 6 rfl rfl)
theorem dJ6_afterNodeAccess_98 : decode cJ6_afterNodeAccess 98 = .ok (.ifnonnull 12, 3) := dk_199 0 12 (dk_at dksJ6_afterNodeAccess_4 7 rfl rfl)
theorem dJ6_afterNodeAccess_101 : decode cJ6_afterNodeAccess 101 = .ok (.aload_n 0, 1) := dk_42 (dk_at dksJ6_afterNodeAccess_4 10 rfl rfl)
theorem dJ6_afterNodeAccess_102 : decode cJ6_afterNodeAccess 102 = .ok (.aload 4, 2) := dk_25 4 (dk_at dksJ6_afterNodeAccess_4 11 rfl rfl)
theorem dJ6_afterNodeAccess_104 : decode cJ6_afterNodeAccess 104 = .ok (.putfield 7, 3) := dk_181 0 7 (dk_at dksJ6_afterNodeAccess_4 13 rfl rfl)
theorem dJ6_afterNodeAccess_107 : decode cJ6_afterNodeAccess 107 = .ok (.goto 15, 3) := dk_167 0 15 (dk_at dksJ6_afterNodeAccess_4 16 rfl rfl)
theorem dJ6_afterNodeAccess_110 : decode cJ6_afterNodeAccess 110 = .ok (.aload 4, 2) := dk_25 4 (dk_at dksJ6_afterNodeAccess_4 19 rfl rfl)
theorem dJ6_afterNodeAccess_112 : decode cJ6_afterNodeAccess 112 = .ok (.aload_n 2, 1) := dk_44 (dk_at dksJ6_afterNodeAccess_4 21 rfl rfl)
theorem dJ6_afterNodeAccess_113 : decode cJ6_afterNodeAccess 113 = .ok (.putfield 19, 3) := dk_181 0 19 (dk_at dksJ6_afterNodeAccess_5 0 rfl rfl)
theorem dJ6_afterNodeAccess_116 : decode cJ6_afterNodeAccess 116 = .ok (.aload_n 2, 1) := dk_44 (dk_at dksJ6_afterNodeAccess_5 3 rfl rfl)
theorem dJ6_afterNodeAccess_117 : decode cJ6_afterNodeAccess 117 = .ok (.aload 4, 2) := dk_25 4 (dk_at dksJ6_afterNodeAccess_5 4 rfl rfl)
theorem dJ6_afterNodeAccess_119 : decode cJ6_afterNodeAccess 119 = .ok (.putfield 14, 3) := dk_181 0 14 (dk_at dksJ6_afterNodeAccess_5 6 rfl rfl)
theorem dJ6_afterNodeAccess_122 : decode cJ6_afterNodeAccess 122 = .ok (.aload_n 0, 1) := dk_42 (dk_at dksJ6_afterNodeAccess_5 9 rfl rfl)
theorem dJ6_afterNodeAccess_123 : decode cJ6_afterNodeAccess 123 = .ok (.aload 4, 2) := dk_25 4 (dk_at dksJ6_afterNodeAccess_5 10 rfl rfl)
theorem dJ6_afterNodeAccess_125 : decode cJ6_afterNodeAccess 125 = .ok (.putfield 11, 3) := dk_181 0 11 (dk_at dksJ6_afterNodeAccess_5 12 rfl rfl)
theorem dJ6_afterNodeAccess_128 : decode cJ6_afterNodeAccess 128 = .ok (.aload_n 0, 1) := dk_42 (dk_at dksJ6_afterNodeAccess_5 15 rfl rfl)
theorem dJ6_afterNodeAccess_129 : decode cJ6_afterNodeAccess 129 = .ok (.dup, 1) := dk_89 (dk_at dksJ6_afterNodeAccess_5 16 rfl rfl)
theorem dJ6_afterNodeAccess_130 : decode cJ6_afterNodeAccess 130 = .ok (.getfield 68, 3) := dk_180 0 68 (dk_at dksJ6_afterNodeAccess_5 17 rfl rfl)
theorem dJ6_afterNodeAccess_133 : decode cJ6_afterNodeAccess 133 = .ok (.iconst 1, 1) := dk_4 (dk_at dksJ6_afterNodeAccess_5 20 rfl rfl)
theorem dJ6_afterNodeAccess_134 : decode cJ6_afterNodeAccess 134 = .ok (.iadd, 1) := dk_96 (dk_at dksJ6_afterNodeAccess_5 21 rfl rfl)
theorem dJ6_afterNodeAccess_135 : decode cJ6_afterNodeAccess 135 = .ok (.putfield 68, 3) := dk_181 0 68 (dk_at dksJ6_afterNodeAccess_6 0 rfl rfl)
theorem dJ6_afterNodeAccess_138 : decode cJ6_afterNodeAccess 138 = .ok (.goto 127, 3) := dk_167 0 127 (dk_at dksJ6_afterNodeAccess_6 3 rfl rfl)
theorem dJ6_afterNodeAccess_141 : decode cJ6_afterNodeAccess 141 = .ok (.aload_n 0, 1) := dk_42 (dk_at dksJ6_afterNodeAccess_6 6 rfl rfl)
theorem dJ6_afterNodeAccess_142 : decode cJ6_afterNodeAccess 142 = .ok (.getfield 1, 3) := dk_180 0 1 (dk_at dksJ6_afterNodeAccess_6 7 rfl rfl)
theorem dJ6_afterNodeAccess_145 : decode cJ6_afterNodeAccess 145 = .ok (.iconst 1, 1) := dk_4 (dk_at dksJ6_afterNodeAccess_6 10 rfl rfl)
theorem dJ6_afterNodeAccess_146 : decode cJ6_afterNodeAccess 146 = .ok (.if_icmp .ne 119, 3) := dk_160 0 119 (dk_at dksJ6_afterNodeAccess_6 11 rfl rfl)
theorem dJ6_afterNodeAccess_149 : decode cJ6_afterNodeAccess 149 = .ok (.aload_n 0, 1) := dk_42 (dk_at dksJ6_afterNodeAccess_6 14 rfl rfl)
theorem dJ6_afterNodeAccess_150 : decode cJ6_afterNodeAccess 150 = .ok (.getfield 7, 3) := dk_180 0 7 (dk_at dksJ6_afterNodeAccess_6 15 rfl rfl)
theorem dJ6_afterNodeAccess_153 : decode cJ6_afterNodeAccess 153 = .ok (.dup, 1) := dk_89 (dk_at dksJ6_afterNodeAccess_6 18 rfl rfl)
theorem dJ6_afterNodeAccess_154 : decode cJ6_afterNodeAccess 154 = .ok (.astore_n 3, 1) := dk_78 (dk_at dksJ6_afterNodeAccess_6 19 rfl rfl)
theorem dJ6_afterNodeAccess_155 : decode cJ6_afterNodeAccess 155 = .ok (.aload_n 1, 1) := dk_43 (dk_at dksJ6_afterNodeAccess_6 20 rfl rfl)
theorem dJ6_afterNodeAccess_156 : decode cJ6_afterNodeAccess 156 = .ok (.if_acmp .eq 109, 3) := dk_165 0 109 (dk_at dksJ6_afterNodeAccess_6 21 rfl rfl)
theorem dJ6_afterNodeAccess_159 : decode cJ6_afterNodeAccess 159 = .ok (.aload_n 1, 1) := dk_43 (dk_at dksJ6_afterNodeAccess_7 0 rfl rfl)
theorem dJ6_afterNodeAccess_160 : decode cJ6_afterNodeAccess 160 = .ok (.checkcast 15, 3) := dk_192 0 15 (dk_at dksJ6_afterNodeAccess_7 1 rfl rfl)
theorem dJ6_afterNodeAccess_163 : decode cJ6_afterNodeAccess 163 = .ok (.astore 4, 2) := dk_58 4 (dk_at dksJ6_afterNodeAccess_7 4 rfl rfl)
theorem dJ6_afterNodeAccess_165 : decode cJ6_afterNodeAccess 165 = .ok (.aload 4, 2) := dk_25 4 (dk_at dksJ6_afterNodeAccess_7 6 rfl rfl)
theorem dJ6_afterNodeAccess_167 : decode cJ6_afterNodeAccess 167 = .ok (.getfield 19, 3) := dk_180 0 19 (dk_at dksJ6_afterNodeAccess_7 8 rfl rfl)
theorem dJ6_afterNodeAccess_170 : decode cJ6_afterNodeAccess 170 = .ok (.astore 5, 2) := dk_58 5 (dk_at dksJ6_afterNodeAccess_7 11 rfl rfl)
theorem dJ6_afterNodeAccess_172 : decode cJ6_afterNodeAccess 172 = .ok (.aload 4, 2) := dk_25 4 (dk_at dksJ6_afterNodeAccess_7 13 rfl rfl)
theorem dJ6_afterNodeAccess_174 : decode cJ6_afterNodeAccess 174 = .ok (.getfield 14, 3) := dk_180 0 14 (dk_at dksJ6_afterNodeAccess_7 15 rfl rfl)
theorem dJ6_afterNodeAccess_177 : decode cJ6_afterNodeAccess 177 = .ok (.astore 6, 2) := dk_58 6 (dk_at dksJ6_afterNodeAccess_7 18 rfl rfl)
theorem dJ6_afterNodeAccess_179 : decode cJ6_afterNodeAccess 179 = .ok (.aload 4, 2) := dk_25 4 (dk_at dksJ6_afterNodeAccess_7 20 rfl rfl)
theorem dJ6_afterNodeAccess_181 : decode cJ6_afterNodeAccess 181 = .ok (.aconst_null, 1) := dk_1 (dk_at dksJ6_afterNodeAccess_7 22 rfl rfl)
theorem dJ6_afterNodeAccess_182 : decode cJ6_afterNodeAccess 182 = .ok (.putfield 19, 3) := dk_181 0 19 (dk_at dksJ6_afterNodeAccess_8 0 rfl rfl)
theorem dJ6_afterNodeAccess_185 : decode cJ6_afterNodeAccess 185 = .ok (.aload 6, 2) := dk_25 6 (dk_at dksJ6_afterNodeAccess_8 3 rfl rfl)
theorem dJ6_afterNodeAccess_187 : decode cJ6_afterNodeAccess 187 = .ok (.ifnonnull 12, 3) := dk_199 0 12 (dk_at dksJ6_afterNodeAccess_8 5 rfl rfl)
theorem dJ6_afterNodeAccess_190 : decode cJ6_afterNodeAccess 190 = .ok (.aload_n 0, 1) := dk_42 (dk_at dksJ6_afterNodeAccess_8 8 rfl rfl)
theorem dJ6_afterNodeAccess_191 : decode cJ6_afterNodeAccess 191 = .ok (.aload 5, 2) := dk_25 5 (dk_at dksJ6_afterNodeAccess_8 9 rfl rfl)
theorem dJ6_afterNodeAccess_193 : decode cJ6_afterNodeAccess 193 = .ok (.putfield 11, 3) := dk_181 0 11 (dk_at dksJ6_afterNodeAccess_8 11 rfl rfl)
theorem dJ6_afterNodeAccess_196 : decode cJ6_afterNodeAccess 196 = .ok (.goto 10, 3) := dk_167 0 10 (dk_at dksJ6_afterNodeAccess_8 14 rfl rfl)
theorem dJ6_afterNodeAccess_199 : decode cJ6_afterNodeAccess 199 = .ok (.aload 6, 2) := dk_25 6 (dk_at dksJ6_afterNodeAccess_8 17 rfl rfl)
theorem dJ6_afterNodeAccess_201 : decode cJ6_afterNodeAccess 201 = .ok (.aload 5, 2) := dk_25 5 (dk_at dksJ6_afterNodeAccess_8 19 rfl rfl)
theorem dJ6_afterNodeAccess_203 : decode cJ6_afterNodeAccess 203 = .ok (.putfield 19, 3) := dk_181 0 19 (dk_at dksJ6_afterNodeAccess_8 21 rfl rfl)
theorem dJ6_afterNodeAccess_206 : decode cJ6_afterNodeAccess 206 = .ok (.aload 5, 2) := dk_25 5 (dk_at dksJ6_afterNodeAccess_9 0 rfl rfl)
theorem dJ6_afterNodeAccess_208 : decode cJ6_afterNodeAccess 208 = .ok (.ifnull 13, 3) := dk_198 0 13 (dk_at dksJ6_afterNodeAccess_9 2 rfl rfl)
theorem dJ6_afterNodeAccess_211 : decode cJ6_afterNodeAccess 211 = .ok (.aload 5, 2) := dk_25 5 (dk_at dksJ6_afterNodeAccess_9 5 rfl rfl)
theorem dJ6_afterNodeAccess_213 : decode cJ6_afterNodeAccess 213 = .ok (.aload 6, 2) := dk_25 6 (dk_at dksJ6_afterNodeAccess_9 7 rfl rfl)
theorem dJ6_afterNodeAccess_215 : decode cJ6_afterNodeAccess 215 = .ok (.putfield 14, 3) := dk_181 0 14 (dk_at dksJ6_afterNodeAccess_9 9 rfl rfl)
theorem dJ6_afterNodeAccess_218 : decode cJ6_afterNodeAccess 218 = .ok (.goto 6, 3) := dk_167 0 6 (dk_at dksJ6_afterNodeAccess_9 12 rfl rfl)
theorem dJ6_afterNodeAccess_221 : decode cJ6_afterNodeAccess 221 = .ok (.aload 6, 2) := dk_25 6 (dk_at dksJ6_afterNodeAccess_9 15 rfl rfl)
theorem dJ6_afterNodeAccess_223 : decode cJ6_afterNodeAccess 223 = .ok (.astore_n 3, 1) := dk_78 (dk_at dksJ6_afterNodeAccess_9 17 rfl rfl)
theorem dJ6_afterNodeAccess_224 : decode cJ6_afterNodeAccess 224 = .ok (.aload_n 3, 1) := dk_45 (dk_at dksJ6_afterNodeAccess_9 18 rfl rfl)
theorem dJ6_afterNodeAccess_225 : decode cJ6_afterNodeAccess 225 = .ok (.ifnonnull 12, 3) := dk_199 0 12 (dk_at dksJ6_afterNodeAccess_9 19 rfl rfl)
theorem dJ6_afterNodeAccess_228 : decode cJ6_afterNodeAccess 228 = .ok (.aload_n 0, 1) := dk_42 (dk_at dksJ6_afterNodeAccess_9 22 rfl rfl)
theorem dJ6_afterNodeAccess_229 : decode cJ6_afterNodeAccess 229 = .ok (.aload 4, 2) := dk_25 4 (dk_at dksJ6_afterNodeAccess_10 0 rfl rfl)
theorem dJ6_afterNodeAccess_231 : decode cJ6_afterNodeAccess 231 = .ok (.putfield 11, 3) := dk_181 0 11 (dk_at dksJ6_afterNodeAccess_10 2 rfl rfl)
theorem dJ6_afterNodeAccess_234 : decode cJ6_afterNodeAccess 234 = .ok (.goto 15, 3) := dk_167 0 15 (dk_at dksJ6_afterNodeAccess_10 5 rfl rfl)
theorem dJ6_afterNodeAccess_237 : decode cJ6_afterNodeAccess 237 = .ok (.aload 4, 2) := dk_25 4 (dk_at dksJ6_afterNodeAccess_10 8 rfl rfl)
theorem dJ6_afterNodeAccess_239 : decode cJ6_afterNodeAccess 239 = .ok (.aload_n 3, 1) := dk_45 (dk_at dksJ6_afterNodeAccess_10 10 rfl rfl)
theorem dJ6_afterNodeAccess_240 : decode cJ6_afterNodeAccess 240 = .ok (.putfield 14, 3) := dk_181 0 14 (dk_at dksJ6_afterNodeAccess_10 11 rfl rfl)
theorem dJ6_afterNodeAccess_243 : decode cJ6_afterNodeAccess 243 = .ok (.aload_n 3, 1) := dk_45 (dk_at dksJ6_afterNodeAccess_10 14 rfl rfl)
theorem dJ6_afterNodeAccess_244 : decode cJ6_afterNodeAccess 244 = .ok (.aload 4, 2) := dk_25 4 (dk_at dksJ6_afterNodeAccess_10 15 rfl rfl)
theorem dJ6_afterNodeAccess_246 : decode cJ6_afterNodeAccess 246 = .ok (.putfield 19, 3) := dk_181 0 19 (dk_at dksJ6_afterNodeAccess_10 17 rfl rfl)
theorem dJ6_afterNodeAccess_249 : decode cJ6_afterNodeAccess 249 = .ok (.aload_n 0, 1) := dk_42 (dk_at dksJ6_afterNodeAccess_10 20 rfl rfl)
theorem dJ6_afterNodeAccess_250 : decode cJ6_afterNodeAccess 250 = .ok (.aload 4, 2) := dk_25 4 (dk_at dksJ6_afterNodeAccess_10 21 rfl rfl)
theorem dJ6_afterNodeAccess_252 : decode cJ6_afterNodeAccess 252 = .ok (.putfield 7, 3) := dk_181 0 7 (dk_at dksJ6_afterNodeAccess_11 0 rfl rfl)
theorem dJ6_afterNodeAccess_255 : decode cJ6_afterNodeAccess 255 = .ok (.aload_n 0, 1) := dk_42 (dk_at dksJ6_afterNodeAccess_11 3 rfl rfl)
theorem dJ6_afterNodeAccess_256 : decode cJ6_afterNodeAccess 256 = .ok (.dup, 1) := dk_89 (dk_at dksJ6_afterNodeAccess_11 4 rfl rfl)
theorem dJ6_afterNodeAccess_257 : decode cJ6_afterNodeAccess 257 = .ok (.getfield 68, 3) := dk_180 0 68 (dk_at dksJ6_afterNodeAccess_11 5 rfl rfl)
theorem dJ6_afterNodeAccess_260 : decode cJ6_afterNodeAccess 260 = .ok (.iconst 1, 1) := dk_4 (dk_at dksJ6_afterNodeAccess_11 8 rfl rfl)
theorem dJ6_afterNodeAccess_261 : decode cJ6_afterNodeAccess 261 = .ok (.iadd, 1) := dk_96 (dk_at dksJ6_afterNodeAccess_11 9 rfl rfl)
theorem dJ6_afterNodeAccess_262 : decode cJ6_afterNodeAccess 262 = .ok (.putfield 68, 3) := dk_181 0 68 (dk_at dksJ6_afterNodeAccess_11 10 rfl rfl)
theorem dJ6_afterNodeAccess_265 : decode cJ6_afterNodeAccess 265 = .ok (.return_, 1) := dk_177 (dk_at dksJ6_afterNodeAccess_11 13 rfl rfl)
abbrev cJ6_replacementNode : ByteArray := prog_57_method_5_code
def yJ6_replacementNode : MethodName := ⟨RJ6, "replacementNode", "(Ljava/util/HashMap$Node;Ljava/util/HashMap$Node;)Ljava/util/HashMap$Node;"⟩
def dkwJ6_replacementNode_1 : List UInt8 := [183, 0, 28, 58, 4, 42, 45, 25, 4, 182, 0, 46, 25, 4, 176]
abbrev dktJ6_replacementNode_1 : List UInt8 := dkwJ6_replacementNode_1 ++ []
def dkwJ6_replacementNode_0 : List UInt8 := [43, 192, 0, 15, 78, 187, 0, 15, 89, 45, 180, 0, 36, 45, 180, 0, 39, 45, 180, 0, 43, 44]
abbrev dktJ6_replacementNode_0 : List UInt8 := dkwJ6_replacementNode_0 ++ dktJ6_replacementNode_1
theorem dksJ6_replacementNode_0 : cJ6_replacementNode.data.toList.drop 0 = dktJ6_replacementNode_0 := by decide +kernel
theorem dksJ6_replacementNode_1 : cJ6_replacementNode.data.toList.drop 22 = dktJ6_replacementNode_1 := dk_seg dksJ6_replacementNode_0 22 rfl rfl
theorem dJ6_replacementNode_0 : decode cJ6_replacementNode 0 = .ok (.aload_n 1, 1) := dk_43 (dk_at dksJ6_replacementNode_0 0 rfl rfl)
theorem dJ6_replacementNode_1 : decode cJ6_replacementNode 1 = .ok (.checkcast 15, 3) := dk_192 0 15 (dk_at dksJ6_replacementNode_0 1 rfl rfl)
theorem dJ6_replacementNode_4 : decode cJ6_replacementNode 4 = .ok (.astore_n 3, 1) := dk_78 (dk_at dksJ6_replacementNode_0 4 rfl rfl)
theorem dJ6_replacementNode_5 : decode cJ6_replacementNode 5 = .ok (.new 15, 3) := dk_187 0 15 (dk_at dksJ6_replacementNode_0 5 rfl rfl)
theorem dJ6_replacementNode_8 : decode cJ6_replacementNode 8 = .ok (.dup, 1) := dk_89 (dk_at dksJ6_replacementNode_0 8 rfl rfl)
theorem dJ6_replacementNode_9 : decode cJ6_replacementNode 9 = .ok (.aload_n 3, 1) := dk_45 (dk_at dksJ6_replacementNode_0 9 rfl rfl)
theorem dJ6_replacementNode_10 : decode cJ6_replacementNode 10 = .ok (.getfield 36, 3) := dk_180 0 36 (dk_at dksJ6_replacementNode_0 10 rfl rfl)
theorem dJ6_replacementNode_13 : decode cJ6_replacementNode 13 = .ok (.aload_n 3, 1) := dk_45 (dk_at dksJ6_replacementNode_0 13 rfl rfl)
theorem dJ6_replacementNode_14 : decode cJ6_replacementNode 14 = .ok (.getfield 39, 3) := dk_180 0 39 (dk_at dksJ6_replacementNode_0 14 rfl rfl)
theorem dJ6_replacementNode_17 : decode cJ6_replacementNode 17 = .ok (.aload_n 3, 1) := dk_45 (dk_at dksJ6_replacementNode_0 17 rfl rfl)
theorem dJ6_replacementNode_18 : decode cJ6_replacementNode 18 = .ok (.getfield 43, 3) := dk_180 0 43 (dk_at dksJ6_replacementNode_0 18 rfl rfl)
theorem dJ6_replacementNode_21 : decode cJ6_replacementNode 21 = .ok (.aload_n 2, 1) := dk_44 (dk_at dksJ6_replacementNode_0 21 rfl rfl)
theorem dJ6_replacementNode_22 : decode cJ6_replacementNode 22 = .ok (.invokespecial 28, 3) := dk_183 0 28 (dk_at dksJ6_replacementNode_1 0 rfl rfl)
theorem dJ6_replacementNode_25 : decode cJ6_replacementNode 25 = .ok (.astore 4, 2) := dk_58 4 (dk_at dksJ6_replacementNode_1 3 rfl rfl)
theorem dJ6_replacementNode_27 : decode cJ6_replacementNode 27 = .ok (.aload_n 0, 1) := dk_42 (dk_at dksJ6_replacementNode_1 5 rfl rfl)
theorem dJ6_replacementNode_28 : decode cJ6_replacementNode 28 = .ok (.aload_n 3, 1) := dk_45 (dk_at dksJ6_replacementNode_1 6 rfl rfl)
theorem dJ6_replacementNode_29 : decode cJ6_replacementNode 29 = .ok (.aload 4, 2) := dk_25 4 (dk_at dksJ6_replacementNode_1 7 rfl rfl)
theorem dJ6_replacementNode_31 : decode cJ6_replacementNode 31 = .ok (.invokevirtual 46, 3) := dk_182 0 46 (dk_at dksJ6_replacementNode_1 9 rfl rfl)
theorem dJ6_replacementNode_34 : decode cJ6_replacementNode 34 = .ok (.aload 4, 2) := dk_25 4 (dk_at dksJ6_replacementNode_1 12 rfl rfl)
theorem dJ6_replacementNode_36 : decode cJ6_replacementNode 36 = .ok (.areturn, 1) := dk_176 (dk_at dksJ6_replacementNode_1 14 rfl rfl)
abbrev cJ6_transferLinks : ByteArray := prog_57_method_2_code
def yJ6_transferLinks : MethodName := ⟨RJ6, "transferLinks", "(Ljava/util/LinkedHashMap$Entry;Ljava/util/LinkedHashMap$Entry;)V"⟩
def dkwJ6_transferLinks_2 : List UInt8 := [181, 0, 11, 167, 0, 9, 25, 4, 44, 181, 0, 19, 177]
abbrev dktJ6_transferLinks_2 : List UInt8 := dkwJ6_transferLinks_2 ++ []
def dkwJ6_transferLinks_1 : List UInt8 := [199, 0, 11, 42, 44, 181, 0, 7, 167, 0, 8, 45, 44, 181, 0, 14, 25, 4, 199, 0, 11, 42, 44]
abbrev dktJ6_transferLinks_1 : List UInt8 := dkwJ6_transferLinks_1 ++ dktJ6_transferLinks_2
def dkwJ6_transferLinks_0 : List UInt8 := [44, 43, 180, 0, 19, 90, 181, 0, 19, 78, 44, 43, 180, 0, 14, 90, 181, 0, 14, 58, 4, 45]
abbrev dktJ6_transferLinks_0 : List UInt8 := dkwJ6_transferLinks_0 ++ dktJ6_transferLinks_1
theorem dksJ6_transferLinks_0 : cJ6_transferLinks.data.toList.drop 0 = dktJ6_transferLinks_0 := by decide +kernel
theorem dksJ6_transferLinks_1 : cJ6_transferLinks.data.toList.drop 22 = dktJ6_transferLinks_1 := dk_seg dksJ6_transferLinks_0 22 rfl rfl
theorem dksJ6_transferLinks_2 : cJ6_transferLinks.data.toList.drop 45 = dktJ6_transferLinks_2 := dk_seg dksJ6_transferLinks_1 23 rfl rfl
theorem dJ6_transferLinks_0 : decode cJ6_transferLinks 0 = .ok (.aload_n 2, 1) := dk_44 (dk_at dksJ6_transferLinks_0 0 rfl rfl)
theorem dJ6_transferLinks_1 : decode cJ6_transferLinks 1 = .ok (.aload_n 1, 1) := dk_43 (dk_at dksJ6_transferLinks_0 1 rfl rfl)
theorem dJ6_transferLinks_2 : decode cJ6_transferLinks 2 = .ok (.getfield 19, 3) := dk_180 0 19 (dk_at dksJ6_transferLinks_0 2 rfl rfl)
theorem dJ6_transferLinks_5 : decode cJ6_transferLinks 5 = .ok (.dup_x1, 1) := dk_90 (dk_at dksJ6_transferLinks_0 5 rfl rfl)
theorem dJ6_transferLinks_6 : decode cJ6_transferLinks 6 = .ok (.putfield 19, 3) := dk_181 0 19 (dk_at dksJ6_transferLinks_0 6 rfl rfl)
theorem dJ6_transferLinks_9 : decode cJ6_transferLinks 9 = .ok (.astore_n 3, 1) := dk_78 (dk_at dksJ6_transferLinks_0 9 rfl rfl)
theorem dJ6_transferLinks_10 : decode cJ6_transferLinks 10 = .ok (.aload_n 2, 1) := dk_44 (dk_at dksJ6_transferLinks_0 10 rfl rfl)
theorem dJ6_transferLinks_11 : decode cJ6_transferLinks 11 = .ok (.aload_n 1, 1) := dk_43 (dk_at dksJ6_transferLinks_0 11 rfl rfl)
theorem dJ6_transferLinks_12 : decode cJ6_transferLinks 12 = .ok (.getfield 14, 3) := dk_180 0 14 (dk_at dksJ6_transferLinks_0 12 rfl rfl)
theorem dJ6_transferLinks_15 : decode cJ6_transferLinks 15 = .ok (.dup_x1, 1) := dk_90 (dk_at dksJ6_transferLinks_0 15 rfl rfl)
theorem dJ6_transferLinks_16 : decode cJ6_transferLinks 16 = .ok (.putfield 14, 3) := dk_181 0 14 (dk_at dksJ6_transferLinks_0 16 rfl rfl)
theorem dJ6_transferLinks_19 : decode cJ6_transferLinks 19 = .ok (.astore 4, 2) := dk_58 4 (dk_at dksJ6_transferLinks_0 19 rfl rfl)
theorem dJ6_transferLinks_21 : decode cJ6_transferLinks 21 = .ok (.aload_n 3, 1) := dk_45 (dk_at dksJ6_transferLinks_0 21 rfl rfl)
theorem dJ6_transferLinks_22 : decode cJ6_transferLinks 22 = .ok (.ifnonnull 11, 3) := dk_199 0 11 (dk_at dksJ6_transferLinks_1 0 rfl rfl)
theorem dJ6_transferLinks_25 : decode cJ6_transferLinks 25 = .ok (.aload_n 0, 1) := dk_42 (dk_at dksJ6_transferLinks_1 3 rfl rfl)
theorem dJ6_transferLinks_26 : decode cJ6_transferLinks 26 = .ok (.aload_n 2, 1) := dk_44 (dk_at dksJ6_transferLinks_1 4 rfl rfl)
theorem dJ6_transferLinks_27 : decode cJ6_transferLinks 27 = .ok (.putfield 7, 3) := dk_181 0 7 (dk_at dksJ6_transferLinks_1 5 rfl rfl)
theorem dJ6_transferLinks_30 : decode cJ6_transferLinks 30 = .ok (.goto 8, 3) := dk_167 0 8 (dk_at dksJ6_transferLinks_1 8 rfl rfl)
theorem dJ6_transferLinks_33 : decode cJ6_transferLinks 33 = .ok (.aload_n 3, 1) := dk_45 (dk_at dksJ6_transferLinks_1 11 rfl rfl)
theorem dJ6_transferLinks_34 : decode cJ6_transferLinks 34 = .ok (.aload_n 2, 1) := dk_44 (dk_at dksJ6_transferLinks_1 12 rfl rfl)
theorem dJ6_transferLinks_35 : decode cJ6_transferLinks 35 = .ok (.putfield 14, 3) := dk_181 0 14 (dk_at dksJ6_transferLinks_1 13 rfl rfl)
theorem dJ6_transferLinks_38 : decode cJ6_transferLinks 38 = .ok (.aload 4, 2) := dk_25 4 (dk_at dksJ6_transferLinks_1 16 rfl rfl)
theorem dJ6_transferLinks_40 : decode cJ6_transferLinks 40 = .ok (.ifnonnull 11, 3) := dk_199 0 11 (dk_at dksJ6_transferLinks_1 18 rfl rfl)
theorem dJ6_transferLinks_43 : decode cJ6_transferLinks 43 = .ok (.aload_n 0, 1) := dk_42 (dk_at dksJ6_transferLinks_1 21 rfl rfl)
theorem dJ6_transferLinks_44 : decode cJ6_transferLinks 44 = .ok (.aload_n 2, 1) := dk_44 (dk_at dksJ6_transferLinks_1 22 rfl rfl)
theorem dJ6_transferLinks_45 : decode cJ6_transferLinks 45 = .ok (.putfield 11, 3) := dk_181 0 11 (dk_at dksJ6_transferLinks_2 0 rfl rfl)
theorem dJ6_transferLinks_48 : decode cJ6_transferLinks 48 = .ok (.goto 9, 3) := dk_167 0 9 (dk_at dksJ6_transferLinks_2 3 rfl rfl)
theorem dJ6_transferLinks_51 : decode cJ6_transferLinks 51 = .ok (.aload 4, 2) := dk_25 4 (dk_at dksJ6_transferLinks_2 6 rfl rfl)
theorem dJ6_transferLinks_53 : decode cJ6_transferLinks 53 = .ok (.aload_n 2, 1) := dk_44 (dk_at dksJ6_transferLinks_2 8 rfl rfl)
theorem dJ6_transferLinks_54 : decode cJ6_transferLinks 54 = .ok (.putfield 19, 3) := dk_181 0 19 (dk_at dksJ6_transferLinks_2 9 rfl rfl)
theorem dJ6_transferLinks_57 : decode cJ6_transferLinks 57 = .ok (.return_, 1) := dk_177 (dk_at dksJ6_transferLinks_2 12 rfl rfl)
abbrev cJ6_newNode : ByteArray := prog_57_method_4_code
def yJ6_newNode : MethodName := ⟨RJ6, "newNode", "(ILjava/lang/Object;Ljava/lang/Object;Ljava/util/HashMap$Node;)Ljava/util/HashMap$Node;"⟩
def dkwJ6_newNode_0 : List UInt8 := [187, 0, 15, 89, 27, 44, 45, 25, 4, 183, 0, 28, 58, 5, 42, 25, 5, 182, 0, 32, 25, 5, 176]
abbrev dktJ6_newNode_0 : List UInt8 := dkwJ6_newNode_0 ++ []
theorem dksJ6_newNode_0 : cJ6_newNode.data.toList.drop 0 = dktJ6_newNode_0 := by decide +kernel
theorem dJ6_newNode_0 : decode cJ6_newNode 0 = .ok (.new 15, 3) := dk_187 0 15 (dk_at dksJ6_newNode_0 0 rfl rfl)
theorem dJ6_newNode_3 : decode cJ6_newNode 3 = .ok (.dup, 1) := dk_89 (dk_at dksJ6_newNode_0 3 rfl rfl)
theorem dJ6_newNode_4 : decode cJ6_newNode 4 = .ok (.iload_n 1, 1) := dk_27 (dk_at dksJ6_newNode_0 4 rfl rfl)
theorem dJ6_newNode_5 : decode cJ6_newNode 5 = .ok (.aload_n 2, 1) := dk_44 (dk_at dksJ6_newNode_0 5 rfl rfl)
theorem dJ6_newNode_6 : decode cJ6_newNode 6 = .ok (.aload_n 3, 1) := dk_45 (dk_at dksJ6_newNode_0 6 rfl rfl)
theorem dJ6_newNode_7 : decode cJ6_newNode 7 = .ok (.aload 4, 2) := dk_25 4 (dk_at dksJ6_newNode_0 7 rfl rfl)
theorem dJ6_newNode_9 : decode cJ6_newNode 9 = .ok (.invokespecial 28, 3) := dk_183 0 28 (dk_at dksJ6_newNode_0 9 rfl rfl)
theorem dJ6_newNode_12 : decode cJ6_newNode 12 = .ok (.astore 5, 2) := dk_58 5 (dk_at dksJ6_newNode_0 12 rfl rfl)
theorem dJ6_newNode_14 : decode cJ6_newNode 14 = .ok (.aload_n 0, 1) := dk_42 (dk_at dksJ6_newNode_0 14 rfl rfl)
theorem dJ6_newNode_15 : decode cJ6_newNode 15 = .ok (.aload 5, 2) := dk_25 5 (dk_at dksJ6_newNode_0 15 rfl rfl)
theorem dJ6_newNode_17 : decode cJ6_newNode 17 = .ok (.invokevirtual 32, 3) := dk_182 0 32 (dk_at dksJ6_newNode_0 17 rfl rfl)
theorem dJ6_newNode_20 : decode cJ6_newNode 20 = .ok (.aload 5, 2) := dk_25 5 (dk_at dksJ6_newNode_0 20 rfl rfl)
theorem dJ6_newNode_22 : decode cJ6_newNode 22 = .ok (.areturn, 1) := dk_176 (dk_at dksJ6_newNode_0 22 rfl rfl)
abbrev cJ6_linkNodeAtEnd : ByteArray := prog_57_method_1_code
def yJ6_linkNodeAtEnd : MethodName := ⟨RJ6, "linkNodeAtEnd", "(Ljava/util/LinkedHashMap$Entry;)V"⟩
def dkwJ6_linkNodeAtEnd_3 : List UInt8 := [181, 0, 14, 177]
abbrev dktJ6_linkNodeAtEnd_3 : List UInt8 := dkwJ6_linkNodeAtEnd_3 ++ []
def dkwJ6_linkNodeAtEnd_2 : List UInt8 := [42, 43, 181, 0, 11, 44, 199, 0, 11, 42, 43, 181, 0, 7, 167, 0, 13, 43, 44, 181, 0, 19, 44, 43]
abbrev dktJ6_linkNodeAtEnd_2 : List UInt8 := dkwJ6_linkNodeAtEnd_2 ++ dktJ6_linkNodeAtEnd_3
def dkwJ6_linkNodeAtEnd_1 : List UInt8 := [181, 0, 11, 167, 0, 13, 43, 44, 181, 0, 14, 44, 43, 181, 0, 19, 167, 0, 35, 42, 180, 0, 11, 77]
abbrev dktJ6_linkNodeAtEnd_1 : List UInt8 := dkwJ6_linkNodeAtEnd_1 ++ dktJ6_linkNodeAtEnd_2
def dkwJ6_linkNodeAtEnd_0 : List UInt8 := [42, 180, 0, 1, 4, 160, 0, 38, 42, 180, 0, 7, 77, 42, 43, 181, 0, 7, 44, 199, 0, 11, 42, 43]
abbrev dktJ6_linkNodeAtEnd_0 : List UInt8 := dkwJ6_linkNodeAtEnd_0 ++ dktJ6_linkNodeAtEnd_1
theorem dksJ6_linkNodeAtEnd_0 : cJ6_linkNodeAtEnd.data.toList.drop 0 = dktJ6_linkNodeAtEnd_0 := by decide +kernel
theorem dksJ6_linkNodeAtEnd_1 : cJ6_linkNodeAtEnd.data.toList.drop 24 = dktJ6_linkNodeAtEnd_1 := dk_seg dksJ6_linkNodeAtEnd_0 24 rfl rfl
theorem dksJ6_linkNodeAtEnd_2 : cJ6_linkNodeAtEnd.data.toList.drop 48 = dktJ6_linkNodeAtEnd_2 := dk_seg dksJ6_linkNodeAtEnd_1 24 rfl rfl
theorem dksJ6_linkNodeAtEnd_3 : cJ6_linkNodeAtEnd.data.toList.drop 72 = dktJ6_linkNodeAtEnd_3 := dk_seg dksJ6_linkNodeAtEnd_2 24 rfl rfl
theorem dJ6_linkNodeAtEnd_0 : decode cJ6_linkNodeAtEnd 0 = .ok (.aload_n 0, 1) := dk_42 (dk_at dksJ6_linkNodeAtEnd_0 0 rfl rfl)
theorem dJ6_linkNodeAtEnd_1 : decode cJ6_linkNodeAtEnd 1 = .ok (.getfield 1, 3) := dk_180 0 1 (dk_at dksJ6_linkNodeAtEnd_0 1 rfl rfl)
theorem dJ6_linkNodeAtEnd_4 : decode cJ6_linkNodeAtEnd 4 = .ok (.iconst 1, 1) := dk_4 (dk_at dksJ6_linkNodeAtEnd_0 4 rfl rfl)
theorem dJ6_linkNodeAtEnd_5 : decode cJ6_linkNodeAtEnd 5 = .ok (.if_icmp .ne 38, 3) := dk_160 0 38 (dk_at dksJ6_linkNodeAtEnd_0 5 rfl rfl)
theorem dJ6_linkNodeAtEnd_8 : decode cJ6_linkNodeAtEnd 8 = .ok (.aload_n 0, 1) := dk_42 (dk_at dksJ6_linkNodeAtEnd_0 8 rfl rfl)
theorem dJ6_linkNodeAtEnd_9 : decode cJ6_linkNodeAtEnd 9 = .ok (.getfield 7, 3) := dk_180 0 7 (dk_at dksJ6_linkNodeAtEnd_0 9 rfl rfl)
theorem dJ6_linkNodeAtEnd_12 : decode cJ6_linkNodeAtEnd 12 = .ok (.astore_n 2, 1) := dk_77 (dk_at dksJ6_linkNodeAtEnd_0 12 rfl rfl)
theorem dJ6_linkNodeAtEnd_13 : decode cJ6_linkNodeAtEnd 13 = .ok (.aload_n 0, 1) := dk_42 (dk_at dksJ6_linkNodeAtEnd_0 13 rfl rfl)
theorem dJ6_linkNodeAtEnd_14 : decode cJ6_linkNodeAtEnd 14 = .ok (.aload_n 1, 1) := dk_43 (dk_at dksJ6_linkNodeAtEnd_0 14 rfl rfl)
theorem dJ6_linkNodeAtEnd_15 : decode cJ6_linkNodeAtEnd 15 = .ok (.putfield 7, 3) := dk_181 0 7 (dk_at dksJ6_linkNodeAtEnd_0 15 rfl rfl)
theorem dJ6_linkNodeAtEnd_18 : decode cJ6_linkNodeAtEnd 18 = .ok (.aload_n 2, 1) := dk_44 (dk_at dksJ6_linkNodeAtEnd_0 18 rfl rfl)
theorem dJ6_linkNodeAtEnd_19 : decode cJ6_linkNodeAtEnd 19 = .ok (.ifnonnull 11, 3) := dk_199 0 11 (dk_at dksJ6_linkNodeAtEnd_0 19 rfl rfl)
theorem dJ6_linkNodeAtEnd_22 : decode cJ6_linkNodeAtEnd 22 = .ok (.aload_n 0, 1) := dk_42 (dk_at dksJ6_linkNodeAtEnd_0 22 rfl rfl)
theorem dJ6_linkNodeAtEnd_23 : decode cJ6_linkNodeAtEnd 23 = .ok (.aload_n 1, 1) := dk_43 (dk_at dksJ6_linkNodeAtEnd_0 23 rfl rfl)
theorem dJ6_linkNodeAtEnd_24 : decode cJ6_linkNodeAtEnd 24 = .ok (.putfield 11, 3) := dk_181 0 11 (dk_at dksJ6_linkNodeAtEnd_1 0 rfl rfl)
theorem dJ6_linkNodeAtEnd_27 : decode cJ6_linkNodeAtEnd 27 = .ok (.goto 13, 3) := dk_167 0 13 (dk_at dksJ6_linkNodeAtEnd_1 3 rfl rfl)
theorem dJ6_linkNodeAtEnd_30 : decode cJ6_linkNodeAtEnd 30 = .ok (.aload_n 1, 1) := dk_43 (dk_at dksJ6_linkNodeAtEnd_1 6 rfl rfl)
theorem dJ6_linkNodeAtEnd_31 : decode cJ6_linkNodeAtEnd 31 = .ok (.aload_n 2, 1) := dk_44 (dk_at dksJ6_linkNodeAtEnd_1 7 rfl rfl)
theorem dJ6_linkNodeAtEnd_32 : decode cJ6_linkNodeAtEnd 32 = .ok (.putfield 14, 3) := dk_181 0 14 (dk_at dksJ6_linkNodeAtEnd_1 8 rfl rfl)
theorem dJ6_linkNodeAtEnd_35 : decode cJ6_linkNodeAtEnd 35 = .ok (.aload_n 2, 1) := dk_44 (dk_at dksJ6_linkNodeAtEnd_1 11 rfl rfl)
theorem dJ6_linkNodeAtEnd_36 : decode cJ6_linkNodeAtEnd 36 = .ok (.aload_n 1, 1) := dk_43 (dk_at dksJ6_linkNodeAtEnd_1 12 rfl rfl)
theorem dJ6_linkNodeAtEnd_37 : decode cJ6_linkNodeAtEnd 37 = .ok (.putfield 19, 3) := dk_181 0 19 (dk_at dksJ6_linkNodeAtEnd_1 13 rfl rfl)
theorem dJ6_linkNodeAtEnd_40 : decode cJ6_linkNodeAtEnd 40 = .ok (.goto 35, 3) := dk_167 0 35 (dk_at dksJ6_linkNodeAtEnd_1 16 rfl rfl)
theorem dJ6_linkNodeAtEnd_43 : decode cJ6_linkNodeAtEnd 43 = .ok (.aload_n 0, 1) := dk_42 (dk_at dksJ6_linkNodeAtEnd_1 19 rfl rfl)
theorem dJ6_linkNodeAtEnd_44 : decode cJ6_linkNodeAtEnd 44 = .ok (.getfield 11, 3) := dk_180 0 11 (dk_at dksJ6_linkNodeAtEnd_1 20 rfl rfl)
theorem dJ6_linkNodeAtEnd_47 : decode cJ6_linkNodeAtEnd 47 = .ok (.astore_n 2, 1) := dk_77 (dk_at dksJ6_linkNodeAtEnd_1 23 rfl rfl)
theorem dJ6_linkNodeAtEnd_48 : decode cJ6_linkNodeAtEnd 48 = .ok (.aload_n 0, 1) := dk_42 (dk_at dksJ6_linkNodeAtEnd_2 0 rfl rfl)
theorem dJ6_linkNodeAtEnd_49 : decode cJ6_linkNodeAtEnd 49 = .ok (.aload_n 1, 1) := dk_43 (dk_at dksJ6_linkNodeAtEnd_2 1 rfl rfl)
theorem dJ6_linkNodeAtEnd_50 : decode cJ6_linkNodeAtEnd 50 = .ok (.putfield 11, 3) := dk_181 0 11 (dk_at dksJ6_linkNodeAtEnd_2 2 rfl rfl)
theorem dJ6_linkNodeAtEnd_53 : decode cJ6_linkNodeAtEnd 53 = .ok (.aload_n 2, 1) := dk_44 (dk_at dksJ6_linkNodeAtEnd_2 5 rfl rfl)
theorem dJ6_linkNodeAtEnd_54 : decode cJ6_linkNodeAtEnd 54 = .ok (.ifnonnull 11, 3) := dk_199 0 11 (dk_at dksJ6_linkNodeAtEnd_2 6 rfl rfl)
theorem dJ6_linkNodeAtEnd_57 : decode cJ6_linkNodeAtEnd 57 = .ok (.aload_n 0, 1) := dk_42 (dk_at dksJ6_linkNodeAtEnd_2 9 rfl rfl)
theorem dJ6_linkNodeAtEnd_58 : decode cJ6_linkNodeAtEnd 58 = .ok (.aload_n 1, 1) := dk_43 (dk_at dksJ6_linkNodeAtEnd_2 10 rfl rfl)
theorem dJ6_linkNodeAtEnd_59 : decode cJ6_linkNodeAtEnd 59 = .ok (.putfield 7, 3) := dk_181 0 7 (dk_at dksJ6_linkNodeAtEnd_2 11 rfl rfl)
theorem dJ6_linkNodeAtEnd_62 : decode cJ6_linkNodeAtEnd 62 = .ok (.goto 13, 3) := dk_167 0 13 (dk_at dksJ6_linkNodeAtEnd_2 14 rfl rfl)
theorem dJ6_linkNodeAtEnd_65 : decode cJ6_linkNodeAtEnd 65 = .ok (.aload_n 1, 1) := dk_43 (dk_at dksJ6_linkNodeAtEnd_2 17 rfl rfl)
theorem dJ6_linkNodeAtEnd_66 : decode cJ6_linkNodeAtEnd 66 = .ok (.aload_n 2, 1) := dk_44 (dk_at dksJ6_linkNodeAtEnd_2 18 rfl rfl)
theorem dJ6_linkNodeAtEnd_67 : decode cJ6_linkNodeAtEnd 67 = .ok (.putfield 19, 3) := dk_181 0 19 (dk_at dksJ6_linkNodeAtEnd_2 19 rfl rfl)
theorem dJ6_linkNodeAtEnd_70 : decode cJ6_linkNodeAtEnd 70 = .ok (.aload_n 2, 1) := dk_44 (dk_at dksJ6_linkNodeAtEnd_2 22 rfl rfl)
theorem dJ6_linkNodeAtEnd_71 : decode cJ6_linkNodeAtEnd 71 = .ok (.aload_n 1, 1) := dk_43 (dk_at dksJ6_linkNodeAtEnd_2 23 rfl rfl)
theorem dJ6_linkNodeAtEnd_72 : decode cJ6_linkNodeAtEnd 72 = .ok (.putfield 14, 3) := dk_181 0 14 (dk_at dksJ6_linkNodeAtEnd_3 0 rfl rfl)
theorem dJ6_linkNodeAtEnd_75 : decode cJ6_linkNodeAtEnd 75 = .ok (.return_, 1) := dk_177 (dk_at dksJ6_linkNodeAtEnd_3 3 rfl rfl)
abbrev cJ6_newTreeNode : ByteArray := prog_57_method_6_code
def yJ6_newTreeNode : MethodName := ⟨RJ6, "newTreeNode", "(ILjava/lang/Object;Ljava/lang/Object;Ljava/util/HashMap$Node;)Ljava/util/HashMap$TreeNode;"⟩
def dkwJ6_newTreeNode_0 : List UInt8 := [187, 0, 50, 89, 27, 44, 45, 25, 4, 183, 0, 52, 58, 5, 42, 25, 5, 182, 0, 32, 25, 5, 176]
abbrev dktJ6_newTreeNode_0 : List UInt8 := dkwJ6_newTreeNode_0 ++ []
theorem dksJ6_newTreeNode_0 : cJ6_newTreeNode.data.toList.drop 0 = dktJ6_newTreeNode_0 := by decide +kernel
theorem dJ6_newTreeNode_0 : decode cJ6_newTreeNode 0 = .ok (.new 50, 3) := dk_187 0 50 (dk_at dksJ6_newTreeNode_0 0 rfl rfl)
theorem dJ6_newTreeNode_3 : decode cJ6_newTreeNode 3 = .ok (.dup, 1) := dk_89 (dk_at dksJ6_newTreeNode_0 3 rfl rfl)
theorem dJ6_newTreeNode_4 : decode cJ6_newTreeNode 4 = .ok (.iload_n 1, 1) := dk_27 (dk_at dksJ6_newTreeNode_0 4 rfl rfl)
theorem dJ6_newTreeNode_5 : decode cJ6_newTreeNode 5 = .ok (.aload_n 2, 1) := dk_44 (dk_at dksJ6_newTreeNode_0 5 rfl rfl)
theorem dJ6_newTreeNode_6 : decode cJ6_newTreeNode 6 = .ok (.aload_n 3, 1) := dk_45 (dk_at dksJ6_newTreeNode_0 6 rfl rfl)
theorem dJ6_newTreeNode_7 : decode cJ6_newTreeNode 7 = .ok (.aload 4, 2) := dk_25 4 (dk_at dksJ6_newTreeNode_0 7 rfl rfl)
theorem dJ6_newTreeNode_9 : decode cJ6_newTreeNode 9 = .ok (.invokespecial 52, 3) := dk_183 0 52 (dk_at dksJ6_newTreeNode_0 9 rfl rfl)
theorem dJ6_newTreeNode_12 : decode cJ6_newTreeNode 12 = .ok (.astore 5, 2) := dk_58 5 (dk_at dksJ6_newTreeNode_0 12 rfl rfl)
theorem dJ6_newTreeNode_14 : decode cJ6_newTreeNode 14 = .ok (.aload_n 0, 1) := dk_42 (dk_at dksJ6_newTreeNode_0 14 rfl rfl)
theorem dJ6_newTreeNode_15 : decode cJ6_newTreeNode 15 = .ok (.aload 5, 2) := dk_25 5 (dk_at dksJ6_newTreeNode_0 15 rfl rfl)
theorem dJ6_newTreeNode_17 : decode cJ6_newTreeNode 17 = .ok (.invokevirtual 32, 3) := dk_182 0 32 (dk_at dksJ6_newTreeNode_0 17 rfl rfl)
theorem dJ6_newTreeNode_20 : decode cJ6_newTreeNode 20 = .ok (.aload 5, 2) := dk_25 5 (dk_at dksJ6_newTreeNode_0 20 rfl rfl)
theorem dJ6_newTreeNode_22 : decode cJ6_newTreeNode 22 = .ok (.areturn, 1) := dk_176 (dk_at dksJ6_newTreeNode_0 22 rfl rfl)
abbrev cJ6_replacementTreeNode : ByteArray := prog_57_method_7_code
def yJ6_replacementTreeNode : MethodName := ⟨RJ6, "replacementTreeNode", "(Ljava/util/HashMap$Node;Ljava/util/HashMap$Node;)Ljava/util/HashMap$TreeNode;"⟩
def dkwJ6_replacementTreeNode_1 : List UInt8 := [183, 0, 52, 58, 4, 42, 45, 25, 4, 182, 0, 46, 25, 4, 176]
abbrev dktJ6_replacementTreeNode_1 : List UInt8 := dkwJ6_replacementTreeNode_1 ++ []
def dkwJ6_replacementTreeNode_0 : List UInt8 := [43, 192, 0, 15, 78, 187, 0, 50, 89, 45, 180, 0, 36, 45, 180, 0, 39, 45, 180, 0, 43, 44]
abbrev dktJ6_replacementTreeNode_0 : List UInt8 := dkwJ6_replacementTreeNode_0 ++ dktJ6_replacementTreeNode_1
theorem dksJ6_replacementTreeNode_0 : cJ6_replacementTreeNode.data.toList.drop 0 = dktJ6_replacementTreeNode_0 := by decide +kernel
theorem dksJ6_replacementTreeNode_1 : cJ6_replacementTreeNode.data.toList.drop 22 = dktJ6_replacementTreeNode_1 := dk_seg dksJ6_replacementTreeNode_0 22 rfl rfl
theorem dJ6_replacementTreeNode_0 : decode cJ6_replacementTreeNode 0 = .ok (.aload_n 1, 1) := dk_43 (dk_at dksJ6_replacementTreeNode_0 0 rfl rfl)
theorem dJ6_replacementTreeNode_1 : decode cJ6_replacementTreeNode 1 = .ok (.checkcast 15, 3) := dk_192 0 15 (dk_at dksJ6_replacementTreeNode_0 1 rfl rfl)
theorem dJ6_replacementTreeNode_4 : decode cJ6_replacementTreeNode 4 = .ok (.astore_n 3, 1) := dk_78 (dk_at dksJ6_replacementTreeNode_0 4 rfl rfl)
theorem dJ6_replacementTreeNode_5 : decode cJ6_replacementTreeNode 5 = .ok (.new 50, 3) := dk_187 0 50 (dk_at dksJ6_replacementTreeNode_0 5 rfl rfl)
theorem dJ6_replacementTreeNode_8 : decode cJ6_replacementTreeNode 8 = .ok (.dup, 1) := dk_89 (dk_at dksJ6_replacementTreeNode_0 8 rfl rfl)
theorem dJ6_replacementTreeNode_9 : decode cJ6_replacementTreeNode 9 = .ok (.aload_n 3, 1) := dk_45 (dk_at dksJ6_replacementTreeNode_0 9 rfl rfl)
theorem dJ6_replacementTreeNode_10 : decode cJ6_replacementTreeNode 10 = .ok (.getfield 36, 3) := dk_180 0 36 (dk_at dksJ6_replacementTreeNode_0 10 rfl rfl)
theorem dJ6_replacementTreeNode_13 : decode cJ6_replacementTreeNode 13 = .ok (.aload_n 3, 1) := dk_45 (dk_at dksJ6_replacementTreeNode_0 13 rfl rfl)
theorem dJ6_replacementTreeNode_14 : decode cJ6_replacementTreeNode 14 = .ok (.getfield 39, 3) := dk_180 0 39 (dk_at dksJ6_replacementTreeNode_0 14 rfl rfl)
theorem dJ6_replacementTreeNode_17 : decode cJ6_replacementTreeNode 17 = .ok (.aload_n 3, 1) := dk_45 (dk_at dksJ6_replacementTreeNode_0 17 rfl rfl)
theorem dJ6_replacementTreeNode_18 : decode cJ6_replacementTreeNode 18 = .ok (.getfield 43, 3) := dk_180 0 43 (dk_at dksJ6_replacementTreeNode_0 18 rfl rfl)
theorem dJ6_replacementTreeNode_21 : decode cJ6_replacementTreeNode 21 = .ok (.aload_n 2, 1) := dk_44 (dk_at dksJ6_replacementTreeNode_0 21 rfl rfl)
theorem dJ6_replacementTreeNode_22 : decode cJ6_replacementTreeNode 22 = .ok (.invokespecial 52, 3) := dk_183 0 52 (dk_at dksJ6_replacementTreeNode_1 0 rfl rfl)
theorem dJ6_replacementTreeNode_25 : decode cJ6_replacementTreeNode 25 = .ok (.astore 4, 2) := dk_58 4 (dk_at dksJ6_replacementTreeNode_1 3 rfl rfl)
theorem dJ6_replacementTreeNode_27 : decode cJ6_replacementTreeNode 27 = .ok (.aload_n 0, 1) := dk_42 (dk_at dksJ6_replacementTreeNode_1 5 rfl rfl)
theorem dJ6_replacementTreeNode_28 : decode cJ6_replacementTreeNode 28 = .ok (.aload_n 3, 1) := dk_45 (dk_at dksJ6_replacementTreeNode_1 6 rfl rfl)
theorem dJ6_replacementTreeNode_29 : decode cJ6_replacementTreeNode 29 = .ok (.aload 4, 2) := dk_25 4 (dk_at dksJ6_replacementTreeNode_1 7 rfl rfl)
theorem dJ6_replacementTreeNode_31 : decode cJ6_replacementTreeNode 31 = .ok (.invokevirtual 46, 3) := dk_182 0 46 (dk_at dksJ6_replacementTreeNode_1 9 rfl rfl)
theorem dJ6_replacementTreeNode_34 : decode cJ6_replacementTreeNode 34 = .ok (.aload 4, 2) := dk_25 4 (dk_at dksJ6_replacementTreeNode_1 12 rfl rfl)
theorem dJ6_replacementTreeNode_36 : decode cJ6_replacementTreeNode 36 = .ok (.areturn, 1) := dk_176 (dk_at dksJ6_replacementTreeNode_1 14 rfl rfl)
abbrev cJ6_afterNodeInsertion : ByteArray := prog_57_method_9_code
def yJ6_afterNodeInsertion : MethodName := ⟨RJ6, "afterNodeInsertion", "(Z)V"⟩
def dkwJ6_afterNodeInsertion_1 : List UInt8 := [180, 0, 39, 78, 42, 45, 184, 0, 57, 45, 1, 3, 4, 182, 0, 60, 87, 177]
abbrev dktJ6_afterNodeInsertion_1 : List UInt8 := dkwJ6_afterNodeInsertion_1 ++ []
def dkwJ6_afterNodeInsertion_0 : List UInt8 := [27, 153, 0, 38, 42, 180, 0, 7, 89, 77, 198, 0, 29, 42, 44, 182, 0, 53, 153, 0, 21, 44]
abbrev dktJ6_afterNodeInsertion_0 : List UInt8 := dkwJ6_afterNodeInsertion_0 ++ dktJ6_afterNodeInsertion_1
theorem dksJ6_afterNodeInsertion_0 : cJ6_afterNodeInsertion.data.toList.drop 0 = dktJ6_afterNodeInsertion_0 := by decide +kernel
theorem dksJ6_afterNodeInsertion_1 : cJ6_afterNodeInsertion.data.toList.drop 22 = dktJ6_afterNodeInsertion_1 := dk_seg dksJ6_afterNodeInsertion_0 22 rfl rfl
theorem dJ6_afterNodeInsertion_0 : decode cJ6_afterNodeInsertion 0 = .ok (.iload_n 1, 1) := dk_27 (dk_at dksJ6_afterNodeInsertion_0 0 rfl rfl)
theorem dJ6_afterNodeInsertion_1 : decode cJ6_afterNodeInsertion 1 = .ok (.ifCond .eq 38, 3) := dk_153 0 38 (dk_at dksJ6_afterNodeInsertion_0 1 rfl rfl)
theorem dJ6_afterNodeInsertion_4 : decode cJ6_afterNodeInsertion 4 = .ok (.aload_n 0, 1) := dk_42 (dk_at dksJ6_afterNodeInsertion_0 4 rfl rfl)
theorem dJ6_afterNodeInsertion_5 : decode cJ6_afterNodeInsertion 5 = .ok (.getfield 7, 3) := dk_180 0 7 (dk_at dksJ6_afterNodeInsertion_0 5 rfl rfl)
theorem dJ6_afterNodeInsertion_8 : decode cJ6_afterNodeInsertion 8 = .ok (.dup, 1) := dk_89 (dk_at dksJ6_afterNodeInsertion_0 8 rfl rfl)
theorem dJ6_afterNodeInsertion_9 : decode cJ6_afterNodeInsertion 9 = .ok (.astore_n 2, 1) := dk_77 (dk_at dksJ6_afterNodeInsertion_0 9 rfl rfl)
theorem dJ6_afterNodeInsertion_10 : decode cJ6_afterNodeInsertion 10 = .ok (.ifnull 29, 3) := dk_198 0 29 (dk_at dksJ6_afterNodeInsertion_0 10 rfl rfl)
theorem dJ6_afterNodeInsertion_13 : decode cJ6_afterNodeInsertion 13 = .ok (.aload_n 0, 1) := dk_42 (dk_at dksJ6_afterNodeInsertion_0 13 rfl rfl)
theorem dJ6_afterNodeInsertion_14 : decode cJ6_afterNodeInsertion 14 = .ok (.aload_n 2, 1) := dk_44 (dk_at dksJ6_afterNodeInsertion_0 14 rfl rfl)
theorem dJ6_afterNodeInsertion_15 : decode cJ6_afterNodeInsertion 15 = .ok (.invokevirtual 53, 3) := dk_182 0 53 (dk_at dksJ6_afterNodeInsertion_0 15 rfl rfl)
theorem dJ6_afterNodeInsertion_18 : decode cJ6_afterNodeInsertion 18 = .ok (.ifCond .eq 21, 3) := dk_153 0 21 (dk_at dksJ6_afterNodeInsertion_0 18 rfl rfl)
theorem dJ6_afterNodeInsertion_21 : decode cJ6_afterNodeInsertion 21 = .ok (.aload_n 2, 1) := dk_44 (dk_at dksJ6_afterNodeInsertion_0 21 rfl rfl)
theorem dJ6_afterNodeInsertion_22 : decode cJ6_afterNodeInsertion 22 = .ok (.getfield 39, 3) := dk_180 0 39 (dk_at dksJ6_afterNodeInsertion_1 0 rfl rfl)
theorem dJ6_afterNodeInsertion_25 : decode cJ6_afterNodeInsertion 25 = .ok (.astore_n 3, 1) := dk_78 (dk_at dksJ6_afterNodeInsertion_1 3 rfl rfl)
theorem dJ6_afterNodeInsertion_26 : decode cJ6_afterNodeInsertion 26 = .ok (.aload_n 0, 1) := dk_42 (dk_at dksJ6_afterNodeInsertion_1 4 rfl rfl)
theorem dJ6_afterNodeInsertion_27 : decode cJ6_afterNodeInsertion 27 = .ok (.aload_n 3, 1) := dk_45 (dk_at dksJ6_afterNodeInsertion_1 5 rfl rfl)
theorem dJ6_afterNodeInsertion_28 : decode cJ6_afterNodeInsertion 28 = .ok (.invokestatic 57, 3) := dk_184 0 57 (dk_at dksJ6_afterNodeInsertion_1 6 rfl rfl)
theorem dJ6_afterNodeInsertion_31 : decode cJ6_afterNodeInsertion 31 = .ok (.aload_n 3, 1) := dk_45 (dk_at dksJ6_afterNodeInsertion_1 9 rfl rfl)
theorem dJ6_afterNodeInsertion_32 : decode cJ6_afterNodeInsertion 32 = .ok (.aconst_null, 1) := dk_1 (dk_at dksJ6_afterNodeInsertion_1 10 rfl rfl)
theorem dJ6_afterNodeInsertion_33 : decode cJ6_afterNodeInsertion 33 = .ok (.iconst 0, 1) := dk_3 (dk_at dksJ6_afterNodeInsertion_1 11 rfl rfl)
theorem dJ6_afterNodeInsertion_34 : decode cJ6_afterNodeInsertion 34 = .ok (.iconst 1, 1) := dk_4 (dk_at dksJ6_afterNodeInsertion_1 12 rfl rfl)
theorem dJ6_afterNodeInsertion_35 : decode cJ6_afterNodeInsertion 35 = .ok (.invokevirtual 60, 3) := dk_182 0 60 (dk_at dksJ6_afterNodeInsertion_1 13 rfl rfl)
theorem dJ6_afterNodeInsertion_38 : decode cJ6_afterNodeInsertion 38 = .ok (.pop, 1) := dk_87 (dk_at dksJ6_afterNodeInsertion_1 16 rfl rfl)
theorem dJ6_afterNodeInsertion_39 : decode cJ6_afterNodeInsertion 39 = .ok (.return_, 1) := dk_177 (dk_at dksJ6_afterNodeInsertion_1 17 rfl rfl)
abbrev cJ6_removeEldestEntry : ByteArray := prog_57_method_23_code
def yJ6_removeEldestEntry : MethodName := ⟨RJ6, "removeEldestEntry", "(Ljava/util/Map$Entry;)Z"⟩
theorem dJ6_removeEldestEntry_0 : decode cJ6_removeEldestEntry 0 = .ok (.iconst 0, 1) := by decide +kernel
theorem dJ6_removeEldestEntry_1 : decode cJ6_removeEldestEntry 1 = .ok (.ireturn, 1) := by decide +kernel
abbrev cJ6_keySet : ByteArray := prog_57_method_24_code
def yJ6_keySet : MethodName := ⟨RJ6, "keySet", "()Ljava/util/Set;"⟩
theorem dJ6_keySet_0 : decode cJ6_keySet 0 = .ok (.aload_n 0, 1) := by decide +kernel
theorem dJ6_keySet_1 : decode cJ6_keySet 1 = .ok (.invokevirtual 113, 3) := by decide +kernel
theorem dJ6_keySet_4 : decode cJ6_keySet 4 = .ok (.areturn, 1) := by decide +kernel
abbrev cJ6_sequencedKeySet : ByteArray := prog_57_method_25_code
def yJ6_sequencedKeySet : MethodName := ⟨RJ6, "sequencedKeySet", "()Ljava/util/SequencedSet;"⟩
def dkwJ6_sequencedKeySet_1 : List UInt8 := [44, 176, 43, 192, 0, 126, 176]
abbrev dktJ6_sequencedKeySet_1 : List UInt8 := dkwJ6_sequencedKeySet_1 ++ []
def dkwJ6_sequencedKeySet_0 : List UInt8 := [42, 180, 0, 117, 76, 43, 199, 0, 20, 187, 0, 121, 89, 42, 3, 183, 0, 123, 77, 42, 44, 181, 0, 117]
abbrev dktJ6_sequencedKeySet_0 : List UInt8 := dkwJ6_sequencedKeySet_0 ++ dktJ6_sequencedKeySet_1
theorem dksJ6_sequencedKeySet_0 : cJ6_sequencedKeySet.data.toList.drop 0 = dktJ6_sequencedKeySet_0 := by decide +kernel
theorem dksJ6_sequencedKeySet_1 : cJ6_sequencedKeySet.data.toList.drop 24 = dktJ6_sequencedKeySet_1 := dk_seg dksJ6_sequencedKeySet_0 24 rfl rfl
theorem dJ6_sequencedKeySet_0 : decode cJ6_sequencedKeySet 0 = .ok (.aload_n 0, 1) := dk_42 (dk_at dksJ6_sequencedKeySet_0 0 rfl rfl)
theorem dJ6_sequencedKeySet_1 : decode cJ6_sequencedKeySet 1 = .ok (.getfield 117, 3) := dk_180 0 117 (dk_at dksJ6_sequencedKeySet_0 1 rfl rfl)
theorem dJ6_sequencedKeySet_4 : decode cJ6_sequencedKeySet 4 = .ok (.astore_n 1, 1) := dk_76 (dk_at dksJ6_sequencedKeySet_0 4 rfl rfl)
theorem dJ6_sequencedKeySet_5 : decode cJ6_sequencedKeySet 5 = .ok (.aload_n 1, 1) := dk_43 (dk_at dksJ6_sequencedKeySet_0 5 rfl rfl)
theorem dJ6_sequencedKeySet_6 : decode cJ6_sequencedKeySet 6 = .ok (.ifnonnull 20, 3) := dk_199 0 20 (dk_at dksJ6_sequencedKeySet_0 6 rfl rfl)
theorem dJ6_sequencedKeySet_9 : decode cJ6_sequencedKeySet 9 = .ok (.new 121, 3) := dk_187 0 121 (dk_at dksJ6_sequencedKeySet_0 9 rfl rfl)
theorem dJ6_sequencedKeySet_12 : decode cJ6_sequencedKeySet 12 = .ok (.dup, 1) := dk_89 (dk_at dksJ6_sequencedKeySet_0 12 rfl rfl)
theorem dJ6_sequencedKeySet_13 : decode cJ6_sequencedKeySet 13 = .ok (.aload_n 0, 1) := dk_42 (dk_at dksJ6_sequencedKeySet_0 13 rfl rfl)
theorem dJ6_sequencedKeySet_14 : decode cJ6_sequencedKeySet 14 = .ok (.iconst 0, 1) := dk_3 (dk_at dksJ6_sequencedKeySet_0 14 rfl rfl)
theorem dJ6_sequencedKeySet_15 : decode cJ6_sequencedKeySet 15 = .ok (.invokespecial 123, 3) := dk_183 0 123 (dk_at dksJ6_sequencedKeySet_0 15 rfl rfl)
theorem dJ6_sequencedKeySet_18 : decode cJ6_sequencedKeySet 18 = .ok (.astore_n 2, 1) := dk_77 (dk_at dksJ6_sequencedKeySet_0 18 rfl rfl)
theorem dJ6_sequencedKeySet_19 : decode cJ6_sequencedKeySet 19 = .ok (.aload_n 0, 1) := dk_42 (dk_at dksJ6_sequencedKeySet_0 19 rfl rfl)
theorem dJ6_sequencedKeySet_20 : decode cJ6_sequencedKeySet 20 = .ok (.aload_n 2, 1) := dk_44 (dk_at dksJ6_sequencedKeySet_0 20 rfl rfl)
theorem dJ6_sequencedKeySet_21 : decode cJ6_sequencedKeySet 21 = .ok (.putfield 117, 3) := dk_181 0 117 (dk_at dksJ6_sequencedKeySet_0 21 rfl rfl)
theorem dJ6_sequencedKeySet_24 : decode cJ6_sequencedKeySet 24 = .ok (.aload_n 2, 1) := dk_44 (dk_at dksJ6_sequencedKeySet_1 0 rfl rfl)
theorem dJ6_sequencedKeySet_25 : decode cJ6_sequencedKeySet 25 = .ok (.areturn, 1) := dk_176 (dk_at dksJ6_sequencedKeySet_1 1 rfl rfl)
theorem dJ6_sequencedKeySet_26 : decode cJ6_sequencedKeySet 26 = .ok (.aload_n 1, 1) := dk_43 (dk_at dksJ6_sequencedKeySet_1 2 rfl rfl)
theorem dJ6_sequencedKeySet_27 : decode cJ6_sequencedKeySet 27 = .ok (.checkcast 126, 3) := dk_192 0 126 (dk_at dksJ6_sequencedKeySet_1 3 rfl rfl)
theorem dJ6_sequencedKeySet_30 : decode cJ6_sequencedKeySet 30 = .ok (.areturn, 1) := dk_176 (dk_at dksJ6_sequencedKeySet_1 6 rfl rfl)
theorem q155 : (Jvm.Cond.initialized "java/util/LinkedHashMap") ∈ lw_all := lw_g (lw_at lw_m1 18 rfl) rfl
theorem q503 : (Jvm.Cond.instantiable "java/util/LinkedHashMap" (12 : Nat)) ∈ lw_all := lw_g (lw_at lw_m2 126 rfl) rfl
theorem q505 : (Jvm.Cond.instanceMethod ({ cls := "java/util/LinkedHashMap", name := "<init>", desc := "()V" } : Jvm.MethodName)) ∈ lw_all := lw_g (lw_at lw_m2 128 rfl) rfl
theorem q506 : (Jvm.Cond.code ({ cls := "java/util/LinkedHashMap", name := "<init>", desc := "()V" } : Jvm.MethodName) prog_57_method_16_code (1 : Nat) (Option.none : Option Jvm.ClassFile.FieldType)) ∈ lw_all := lw_g (lw_at lw_m2 129 rfl) rfl
theorem q507 : (Jvm.Cond.methodLink "java/util/LinkedHashMap" (87 : Nat) ({ cls := "java/util/HashMap", name := "<init>", desc := "()V" } : Jvm.MethodName)) ∈ lw_all := lw_g (lw_at lw_m2 130 rfl) rfl
theorem q515 : (Jvm.Cond.fieldLink "java/util/LinkedHashMap" (7 : Nat) "java/util/LinkedHashMap" "head" "Ljava/util/LinkedHashMap$Entry;") ∈ lw_all := lw_g (lw_at lw_m2 138 rfl) rfl
theorem q518 : (Jvm.Cond.fieldLink "java/util/LinkedHashMap" (11 : Nat) "java/util/LinkedHashMap" "tail" "Ljava/util/LinkedHashMap$Entry;") ∈ lw_all := lw_g (lw_at lw_m2 141 rfl) rfl
theorem q519 : (Jvm.Cond.fieldLink "java/util/LinkedHashMap" (64 : Nat) "java/util/LinkedHashMap" "accessOrder" "Z") ∈ lw_all := lw_g (lw_at lw_m2 142 rfl) rfl
theorem q520 : (Jvm.Cond.fieldLink "java/util/LinkedHashMap" (1 : Nat) "java/util/LinkedHashMap" "putMode" "I") ∈ lw_all := lw_g (lw_at lw_m2 143 rfl) rfl
theorem q527 : (Jvm.Cond.sameField "java/util/LinkedHashMap" "java/util/HashMap" "modCount" "I") ∈ lw_all := lw_g (lw_at lw_m2 150 rfl) rfl
theorem q528 : (Jvm.Cond.fieldLink "java/util/LinkedHashMap" (68 : Nat) "java/util/LinkedHashMap" "modCount" "I") ∈ lw_all := lw_g (lw_at lw_m2 151 rfl) rfl
theorem q534 : (Jvm.Cond.fieldLink "java/util/LinkedHashMap" (117 : Nat) "java/util/LinkedHashMap" "keySet" "Ljava/util/Set;") ∈ lw_all := lw_g (lw_at lw_m2 157 rfl) rfl
theorem q535 : (Jvm.Cond.sameField "java/util/LinkedHashMap" "java/util/AbstractMap" "keySet" "Ljava/util/Set;") ∈ lw_all := lw_g (lw_at lw_m2 158 rfl) rfl
theorem q536 : (Jvm.Cond.lays "java/util/LinkedHashMap" "java/util/LinkedHashMap" "head" "Ljava/util/LinkedHashMap$Entry;") ∈ lw_all := lw_g (lw_at lw_m2 159 rfl) rfl
theorem q537 : (Jvm.Cond.soleField "java/util/LinkedHashMap" "head") ∈ lw_all := lw_g (lw_at lw_m2 160 rfl) rfl
theorem q538 : (Jvm.Cond.lays "java/util/LinkedHashMap" "java/util/LinkedHashMap" "tail" "Ljava/util/LinkedHashMap$Entry;") ∈ lw_all := lw_g (lw_at lw_m2 161 rfl) rfl
theorem q539 : (Jvm.Cond.soleField "java/util/LinkedHashMap" "tail") ∈ lw_all := lw_g (lw_at lw_m2 162 rfl) rfl
theorem q540 : (Jvm.Cond.laysFinal "java/util/LinkedHashMap" "java/util/LinkedHashMap" "accessOrder" "Z") ∈ lw_all := lw_g (lw_at lw_m2 163 rfl) rfl
theorem q541 : (Jvm.Cond.soleField "java/util/LinkedHashMap" "accessOrder") ∈ lw_all := lw_g (lw_at lw_m2 164 rfl) rfl
theorem q542 : (Jvm.Cond.lays "java/util/LinkedHashMap" "java/util/LinkedHashMap" "putMode" "I") ∈ lw_all := lw_g (lw_at lw_m2 165 rfl) rfl
theorem q543 : (Jvm.Cond.soleField "java/util/LinkedHashMap" "putMode") ∈ lw_all := lw_g (lw_at lw_m2 166 rfl) rfl
theorem q544 : (Jvm.Cond.lays "java/util/LinkedHashMap" "java/util/HashMap" "table" "[Ljava/util/HashMap$Node;") ∈ lw_all := lw_g (lw_at lw_m2 167 rfl) rfl
theorem q546 : (Jvm.Cond.lays "java/util/LinkedHashMap" "java/util/HashMap" "entrySet" "Ljava/util/Set;") ∈ lw_all := lw_g (lw_at lw_m2 169 rfl) rfl
theorem q548 : (Jvm.Cond.lays "java/util/LinkedHashMap" "java/util/HashMap" "size" "I") ∈ lw_all := lw_g (lw_at lw_m2 171 rfl) rfl
theorem q550 : (Jvm.Cond.lays "java/util/LinkedHashMap" "java/util/HashMap" "modCount" "I") ∈ lw_all := lw_g (lw_at lw_m2 173 rfl) rfl
theorem q552 : (Jvm.Cond.lays "java/util/LinkedHashMap" "java/util/HashMap" "threshold" "I") ∈ lw_all := lw_g (lw_at lw_m2 175 rfl) rfl
theorem q554 : (Jvm.Cond.laysFinal "java/util/LinkedHashMap" "java/util/HashMap" "loadFactor" "F") ∈ lw_all := lw_g (lw_at lw_m2 177 rfl) rfl
theorem q556 : (Jvm.Cond.lays "java/util/LinkedHashMap" "java/util/AbstractMap" "keySet" "Ljava/util/Set;") ∈ lw_all := lw_g (lw_at lw_m2 179 rfl) rfl
theorem q558 : (Jvm.Cond.lays "java/util/LinkedHashMap" "java/util/AbstractMap" "values" "Ljava/util/Collection;") ∈ lw_all := lw_g (lw_at lw_m2 181 rfl) rfl
theorem q560 : (Jvm.Cond.superclass "java/util/LinkedHashMap" "java/util/HashMap") ∈ lw_all := lw_g (lw_at lw_m2 183 rfl) rfl
theorem q588 : (Jvm.Cond.sameMethod "java/util/LinkedHashMap" "java/util/HashMap" "containsKey" "(Ljava/lang/Object;)Z") ∈ lw_all := lw_g (lw_at lw_m2 211 rfl) rfl
theorem q590 : (Jvm.Cond.selects "java/util/LinkedHashMap" ({ cls := "java/util/LinkedHashMap", name := "containsKey", desc := "(Ljava/lang/Object;)Z" } : Jvm.MethodName) ({ cls := "java/util/HashMap", name := "containsKey", desc := "(Ljava/lang/Object;)Z" } : Jvm.MethodName)) ∈ lw_all := lw_g (lw_at lw_m2 213 rfl) rfl
theorem q597 : (Jvm.Cond.selects "java/util/LinkedHashMap" ({ cls := "java/util/HashMap", name := "getNode", desc := "(Ljava/lang/Object;)Ljava/util/HashMap$Node;" } : Jvm.MethodName) ({ cls := "java/util/HashMap", name := "getNode", desc := "(Ljava/lang/Object;)Ljava/util/HashMap$Node;" } : Jvm.MethodName)) ∈ lw_all := lw_g (lw_at lw_m2 220 rfl) rfl
theorem q631 : (Jvm.Cond.instanceMethod ({ cls := "java/util/LinkedHashMap", name := "get", desc := "(Ljava/lang/Object;)Ljava/lang/Object;" } : Jvm.MethodName)) ∈ lw_all := lw_g (lw_at lw_m3 14 rfl) rfl
theorem q632 : (Jvm.Cond.selects "java/util/LinkedHashMap" ({ cls := "java/util/LinkedHashMap", name := "get", desc := "(Ljava/lang/Object;)Ljava/lang/Object;" } : Jvm.MethodName) ({ cls := "java/util/LinkedHashMap", name := "get", desc := "(Ljava/lang/Object;)Ljava/lang/Object;" } : Jvm.MethodName)) ∈ lw_all := lw_g (lw_at lw_m3 15 rfl) rfl
theorem q633 : (Jvm.Cond.code ({ cls := "java/util/LinkedHashMap", name := "get", desc := "(Ljava/lang/Object;)Ljava/lang/Object;" } : Jvm.MethodName) prog_57_method_20_code (3 : Nat) (Option.some (Jvm.ClassFile.FieldType.object "java/lang/Object"))) ∈ lw_all := lw_g (lw_at lw_m3 16 rfl) rfl
theorem q634 : (Jvm.Cond.methodLink "java/util/LinkedHashMap" (99 : Nat) ({ cls := "java/util/LinkedHashMap", name := "getNode", desc := "(Ljava/lang/Object;)Ljava/util/HashMap$Node;" } : Jvm.MethodName)) ∈ lw_all := lw_g (lw_at lw_m3 17 rfl) rfl
theorem q635 : (Jvm.Cond.sameMethod "java/util/LinkedHashMap" "java/util/HashMap" "getNode" "(Ljava/lang/Object;)Ljava/util/HashMap$Node;") ∈ lw_all := lw_g (lw_at lw_m3 18 rfl) rfl
theorem q637 : (Jvm.Cond.selects "java/util/LinkedHashMap" ({ cls := "java/util/LinkedHashMap", name := "getNode", desc := "(Ljava/lang/Object;)Ljava/util/HashMap$Node;" } : Jvm.MethodName) ({ cls := "java/util/HashMap", name := "getNode", desc := "(Ljava/lang/Object;)Ljava/util/HashMap$Node;" } : Jvm.MethodName)) ∈ lw_all := lw_g (lw_at lw_m3 20 rfl) rfl
theorem q638 : (Jvm.Cond.methodLink "java/util/LinkedHashMap" (103 : Nat) ({ cls := "java/util/LinkedHashMap", name := "afterNodeAccess", desc := "(Ljava/util/HashMap$Node;)V" } : Jvm.MethodName)) ∈ lw_all := lw_g (lw_at lw_m3 21 rfl) rfl
theorem q639 : (Jvm.Cond.instanceMethod ({ cls := "java/util/LinkedHashMap", name := "afterNodeAccess", desc := "(Ljava/util/HashMap$Node;)V" } : Jvm.MethodName)) ∈ lw_all := lw_g (lw_at lw_m3 22 rfl) rfl
theorem q640 : (Jvm.Cond.selects "java/util/LinkedHashMap" ({ cls := "java/util/LinkedHashMap", name := "afterNodeAccess", desc := "(Ljava/util/HashMap$Node;)V" } : Jvm.MethodName) ({ cls := "java/util/LinkedHashMap", name := "afterNodeAccess", desc := "(Ljava/util/HashMap$Node;)V" } : Jvm.MethodName)) ∈ lw_all := lw_g (lw_at lw_m3 23 rfl) rfl
theorem q641 : (Jvm.Cond.code ({ cls := "java/util/LinkedHashMap", name := "afterNodeAccess", desc := "(Ljava/util/HashMap$Node;)V" } : Jvm.MethodName) prog_57_method_10_code (7 : Nat) (Option.none : Option Jvm.ClassFile.FieldType)) ∈ lw_all := lw_g (lw_at lw_m3 24 rfl) rfl
theorem q642 : (Jvm.Cond.classLink "java/util/LinkedHashMap" (15 : Nat) "java/util/LinkedHashMap$Entry") ∈ lw_all := lw_g (lw_at lw_m3 25 rfl) rfl
theorem q700 : (Jvm.Cond.sameMethod "java/util/LinkedHashMap" "java/util/HashMap" "size" "()I") ∈ lw_all := lw_g (lw_at lw_m3 83 rfl) rfl
theorem q702 : (Jvm.Cond.selects "java/util/LinkedHashMap" ({ cls := "java/util/LinkedHashMap", name := "size", desc := "()I" } : Jvm.MethodName) ({ cls := "java/util/HashMap", name := "size", desc := "()I" } : Jvm.MethodName)) ∈ lw_all := lw_g (lw_at lw_m3 85 rfl) rfl
theorem q778 : (Jvm.Cond.selects "java/util/LinkedHashMap" ({ cls := "java/lang/Object", name := "getClass", desc := "()Ljava/lang/Class;" } : Jvm.MethodName) ({ cls := "java/lang/Object", name := "getClass", desc := "()Ljava/lang/Class;" } : Jvm.MethodName)) ∈ lw_all := lw_g (lw_at lw_m3 161 rfl) rfl
theorem q810 : (Jvm.Cond.sameMethod "java/util/LinkedHashMap" "java/util/HashMap" "put" "(Ljava/lang/Object;Ljava/lang/Object;)Ljava/lang/Object;") ∈ lw_all := lw_g (lw_at lw_m3 193 rfl) rfl
theorem q812 : (Jvm.Cond.selects "java/util/LinkedHashMap" ({ cls := "java/util/LinkedHashMap", name := "put", desc := "(Ljava/lang/Object;Ljava/lang/Object;)Ljava/lang/Object;" } : Jvm.MethodName) ({ cls := "java/util/HashMap", name := "put", desc := "(Ljava/lang/Object;Ljava/lang/Object;)Ljava/lang/Object;" } : Jvm.MethodName)) ∈ lw_all := lw_g (lw_at lw_m3 195 rfl) rfl
theorem q819 : (Jvm.Cond.selects "java/util/LinkedHashMap" ({ cls := "java/util/HashMap", name := "putVal", desc := "(ILjava/lang/Object;Ljava/lang/Object;ZZ)Ljava/lang/Object;" } : Jvm.MethodName) ({ cls := "java/util/HashMap", name := "putVal", desc := "(ILjava/lang/Object;Ljava/lang/Object;ZZ)Ljava/lang/Object;" } : Jvm.MethodName)) ∈ lw_all := lw_g (lw_at lw_m3 202 rfl) rfl
theorem q825 : (Jvm.Cond.selects "java/util/LinkedHashMap" ({ cls := "java/util/HashMap", name := "resize", desc := "()[Ljava/util/HashMap$Node;" } : Jvm.MethodName) ({ cls := "java/util/HashMap", name := "resize", desc := "()[Ljava/util/HashMap$Node;" } : Jvm.MethodName)) ∈ lw_all := lw_g (lw_at lw_m3 208 rfl) rfl
theorem q845 : (Jvm.Cond.selects "java/util/LinkedHashMap" ({ cls := "java/util/HashMap", name := "replacementNode", desc := "(Ljava/util/HashMap$Node;Ljava/util/HashMap$Node;)Ljava/util/HashMap$Node;" } : Jvm.MethodName) ({ cls := "java/util/LinkedHashMap", name := "replacementNode", desc := "(Ljava/util/HashMap$Node;Ljava/util/HashMap$Node;)Ljava/util/HashMap$Node;" } : Jvm.MethodName)) ∈ lw_all := lw_g (lw_at lw_m3 228 rfl) rfl
theorem q846 : (Jvm.Cond.instanceMethod ({ cls := "java/util/LinkedHashMap", name := "replacementNode", desc := "(Ljava/util/HashMap$Node;Ljava/util/HashMap$Node;)Ljava/util/HashMap$Node;" } : Jvm.MethodName)) ∈ lw_all := lw_g (lw_at lw_m3 229 rfl) rfl
theorem q847 : (Jvm.Cond.code ({ cls := "java/util/LinkedHashMap", name := "replacementNode", desc := "(Ljava/util/HashMap$Node;Ljava/util/HashMap$Node;)Ljava/util/HashMap$Node;" } : Jvm.MethodName) prog_57_method_5_code (5 : Nat) (Option.some (Jvm.ClassFile.FieldType.object "java/util/HashMap$Node"))) ∈ lw_all := lw_g (lw_at lw_m3 230 rfl) rfl
theorem q849 : (Jvm.Cond.methodLink "java/util/LinkedHashMap" (28 : Nat) ({ cls := "java/util/LinkedHashMap$Entry", name := "<init>", desc := "(ILjava/lang/Object;Ljava/lang/Object;Ljava/util/HashMap$Node;)V" } : Jvm.MethodName)) ∈ lw_all := lw_g (lw_at lw_m3 232 rfl) rfl
theorem q856 : (Jvm.Cond.fieldLink "java/util/LinkedHashMap" (19 : Nat) "java/util/LinkedHashMap$Entry" "before" "Ljava/util/LinkedHashMap$Entry;") ∈ lw_all := lw_g (lw_at lw_m3 239 rfl) rfl
theorem q858 : (Jvm.Cond.fieldLink "java/util/LinkedHashMap" (14 : Nat) "java/util/LinkedHashMap$Entry" "after" "Ljava/util/LinkedHashMap$Entry;") ∈ lw_all := lw_g (lw_at lw_m4 1 rfl) rfl
theorem q863 : (Jvm.Cond.fieldLink "java/util/LinkedHashMap" (36 : Nat) "java/util/LinkedHashMap$Entry" "hash" "I") ∈ lw_all := lw_g (lw_at lw_m4 6 rfl) rfl
theorem q870 : (Jvm.Cond.fieldLink "java/util/LinkedHashMap" (39 : Nat) "java/util/LinkedHashMap$Entry" "key" "Ljava/lang/Object;") ∈ lw_all := lw_g (lw_at lw_m4 13 rfl) rfl
theorem q874 : (Jvm.Cond.fieldLink "java/util/LinkedHashMap" (43 : Nat) "java/util/LinkedHashMap$Entry" "value" "Ljava/lang/Object;") ∈ lw_all := lw_g (lw_at lw_m4 17 rfl) rfl
theorem q877 : (Jvm.Cond.fieldLink "java/util/LinkedHashMap" (107 : Nat) "java/util/HashMap$Node" "value" "Ljava/lang/Object;") ∈ lw_all := lw_g (lw_at lw_m4 20 rfl) rfl
theorem q898 : (Jvm.Cond.methodLink "java/util/LinkedHashMap" (46 : Nat) ({ cls := "java/util/LinkedHashMap", name := "transferLinks", desc := "(Ljava/util/LinkedHashMap$Entry;Ljava/util/LinkedHashMap$Entry;)V" } : Jvm.MethodName)) ∈ lw_all := lw_g (lw_at lw_m4 41 rfl) rfl
theorem q899 : (Jvm.Cond.privateMethod ({ cls := "java/util/LinkedHashMap", name := "transferLinks", desc := "(Ljava/util/LinkedHashMap$Entry;Ljava/util/LinkedHashMap$Entry;)V" } : Jvm.MethodName)) ∈ lw_tbl := lw_at lw_m4 42 rfl
theorem q900 : (Jvm.Cond.instanceMethod ({ cls := "java/util/LinkedHashMap", name := "transferLinks", desc := "(Ljava/util/LinkedHashMap$Entry;Ljava/util/LinkedHashMap$Entry;)V" } : Jvm.MethodName)) ∈ lw_all := lw_g (lw_at lw_m4 43 rfl) rfl
theorem q901 : (Jvm.Cond.code ({ cls := "java/util/LinkedHashMap", name := "transferLinks", desc := "(Ljava/util/LinkedHashMap$Entry;Ljava/util/LinkedHashMap$Entry;)V" } : Jvm.MethodName) prog_57_method_2_code (5 : Nat) (Option.none : Option Jvm.ClassFile.FieldType)) ∈ lw_all := lw_g (lw_at lw_m4 44 rfl) rfl
theorem q932 : (Jvm.Cond.selects "java/util/LinkedHashMap" ({ cls := "java/util/HashMap", name := "newNode", desc := "(ILjava/lang/Object;Ljava/lang/Object;Ljava/util/HashMap$Node;)Ljava/util/HashMap$Node;" } : Jvm.MethodName) ({ cls := "java/util/LinkedHashMap", name := "newNode", desc := "(ILjava/lang/Object;Ljava/lang/Object;Ljava/util/HashMap$Node;)Ljava/util/HashMap$Node;" } : Jvm.MethodName)) ∈ lw_all := lw_g (lw_at lw_m4 75 rfl) rfl
theorem q933 : (Jvm.Cond.instanceMethod ({ cls := "java/util/LinkedHashMap", name := "newNode", desc := "(ILjava/lang/Object;Ljava/lang/Object;Ljava/util/HashMap$Node;)Ljava/util/HashMap$Node;" } : Jvm.MethodName)) ∈ lw_all := lw_g (lw_at lw_m4 76 rfl) rfl
theorem q934 : (Jvm.Cond.code ({ cls := "java/util/LinkedHashMap", name := "newNode", desc := "(ILjava/lang/Object;Ljava/lang/Object;Ljava/util/HashMap$Node;)Ljava/util/HashMap$Node;" } : Jvm.MethodName) prog_57_method_4_code (6 : Nat) (Option.some (Jvm.ClassFile.FieldType.object "java/util/HashMap$Node"))) ∈ lw_all := lw_g (lw_at lw_m4 77 rfl) rfl
theorem q935 : (Jvm.Cond.methodLink "java/util/LinkedHashMap" (32 : Nat) ({ cls := "java/util/LinkedHashMap", name := "linkNodeAtEnd", desc := "(Ljava/util/LinkedHashMap$Entry;)V" } : Jvm.MethodName)) ∈ lw_all := lw_g (lw_at lw_m4 78 rfl) rfl
theorem q936 : (Jvm.Cond.privateMethod ({ cls := "java/util/LinkedHashMap", name := "linkNodeAtEnd", desc := "(Ljava/util/LinkedHashMap$Entry;)V" } : Jvm.MethodName)) ∈ lw_tbl := lw_at lw_m4 79 rfl
theorem q937 : (Jvm.Cond.instanceMethod ({ cls := "java/util/LinkedHashMap", name := "linkNodeAtEnd", desc := "(Ljava/util/LinkedHashMap$Entry;)V" } : Jvm.MethodName)) ∈ lw_all := lw_g (lw_at lw_m4 80 rfl) rfl
theorem q938 : (Jvm.Cond.code ({ cls := "java/util/LinkedHashMap", name := "linkNodeAtEnd", desc := "(Ljava/util/LinkedHashMap$Entry;)V" } : Jvm.MethodName) prog_57_method_1_code (3 : Nat) (Option.none : Option Jvm.ClassFile.FieldType)) ∈ lw_all := lw_g (lw_at lw_m4 81 rfl) rfl
theorem q948 : (Jvm.Cond.selects "java/util/LinkedHashMap" ({ cls := "java/util/HashMap", name := "newTreeNode", desc := "(ILjava/lang/Object;Ljava/lang/Object;Ljava/util/HashMap$Node;)Ljava/util/HashMap$TreeNode;" } : Jvm.MethodName) ({ cls := "java/util/LinkedHashMap", name := "newTreeNode", desc := "(ILjava/lang/Object;Ljava/lang/Object;Ljava/util/HashMap$Node;)Ljava/util/HashMap$TreeNode;" } : Jvm.MethodName)) ∈ lw_all := lw_g (lw_at lw_m4 91 rfl) rfl
theorem q949 : (Jvm.Cond.instanceMethod ({ cls := "java/util/LinkedHashMap", name := "newTreeNode", desc := "(ILjava/lang/Object;Ljava/lang/Object;Ljava/util/HashMap$Node;)Ljava/util/HashMap$TreeNode;" } : Jvm.MethodName)) ∈ lw_all := lw_g (lw_at lw_m4 92 rfl) rfl
theorem q950 : (Jvm.Cond.code ({ cls := "java/util/LinkedHashMap", name := "newTreeNode", desc := "(ILjava/lang/Object;Ljava/lang/Object;Ljava/util/HashMap$Node;)Ljava/util/HashMap$TreeNode;" } : Jvm.MethodName) prog_57_method_6_code (6 : Nat) (Option.some (Jvm.ClassFile.FieldType.object "java/util/HashMap$TreeNode"))) ∈ lw_all := lw_g (lw_at lw_m4 93 rfl) rfl
theorem q951 : (Jvm.Cond.classLink "java/util/LinkedHashMap" (50 : Nat) "java/util/HashMap$TreeNode") ∈ lw_all := lw_g (lw_at lw_m4 94 rfl) rfl
theorem q953 : (Jvm.Cond.methodLink "java/util/LinkedHashMap" (52 : Nat) ({ cls := "java/util/HashMap$TreeNode", name := "<init>", desc := "(ILjava/lang/Object;Ljava/lang/Object;Ljava/util/HashMap$Node;)V" } : Jvm.MethodName)) ∈ lw_all := lw_g (lw_at lw_m4 96 rfl) rfl
theorem q986 : (Jvm.Cond.selects "java/util/LinkedHashMap" ({ cls := "java/util/HashMap", name := "treeifyBin", desc := "([Ljava/util/HashMap$Node;I)V" } : Jvm.MethodName) ({ cls := "java/util/HashMap", name := "treeifyBin", desc := "([Ljava/util/HashMap$Node;I)V" } : Jvm.MethodName)) ∈ lw_all := lw_g (lw_at lw_m4 129 rfl) rfl
theorem q992 : (Jvm.Cond.selects "java/util/LinkedHashMap" ({ cls := "java/util/HashMap", name := "replacementTreeNode", desc := "(Ljava/util/HashMap$Node;Ljava/util/HashMap$Node;)Ljava/util/HashMap$TreeNode;" } : Jvm.MethodName) ({ cls := "java/util/LinkedHashMap", name := "replacementTreeNode", desc := "(Ljava/util/HashMap$Node;Ljava/util/HashMap$Node;)Ljava/util/HashMap$TreeNode;" } : Jvm.MethodName)) ∈ lw_all := lw_g (lw_at lw_m4 135 rfl) rfl
theorem q993 : (Jvm.Cond.instanceMethod ({ cls := "java/util/LinkedHashMap", name := "replacementTreeNode", desc := "(Ljava/util/HashMap$Node;Ljava/util/HashMap$Node;)Ljava/util/HashMap$TreeNode;" } : Jvm.MethodName)) ∈ lw_all := lw_g (lw_at lw_m4 136 rfl) rfl
theorem q994 : (Jvm.Cond.code ({ cls := "java/util/LinkedHashMap", name := "replacementTreeNode", desc := "(Ljava/util/HashMap$Node;Ljava/util/HashMap$Node;)Ljava/util/HashMap$TreeNode;" } : Jvm.MethodName) prog_57_method_7_code (5 : Nat) (Option.some (Jvm.ClassFile.FieldType.object "java/util/HashMap$TreeNode"))) ∈ lw_all := lw_g (lw_at lw_m4 137 rfl) rfl
theorem q1001 : (Jvm.Cond.selects "java/util/LinkedHashMap" ({ cls := "java/util/HashMap", name := "afterNodeAccess", desc := "(Ljava/util/HashMap$Node;)V" } : Jvm.MethodName) ({ cls := "java/util/LinkedHashMap", name := "afterNodeAccess", desc := "(Ljava/util/HashMap$Node;)V" } : Jvm.MethodName)) ∈ lw_all := lw_g (lw_at lw_m4 144 rfl) rfl
theorem q1007 : (Jvm.Cond.selects "java/util/LinkedHashMap" ({ cls := "java/util/HashMap", name := "afterNodeInsertion", desc := "(Z)V" } : Jvm.MethodName) ({ cls := "java/util/LinkedHashMap", name := "afterNodeInsertion", desc := "(Z)V" } : Jvm.MethodName)) ∈ lw_all := lw_g (lw_at lw_m4 150 rfl) rfl
theorem q1008 : (Jvm.Cond.instanceMethod ({ cls := "java/util/LinkedHashMap", name := "afterNodeInsertion", desc := "(Z)V" } : Jvm.MethodName)) ∈ lw_all := lw_g (lw_at lw_m4 151 rfl) rfl
theorem q1009 : (Jvm.Cond.code ({ cls := "java/util/LinkedHashMap", name := "afterNodeInsertion", desc := "(Z)V" } : Jvm.MethodName) prog_57_method_9_code (4 : Nat) (Option.none : Option Jvm.ClassFile.FieldType)) ∈ lw_all := lw_g (lw_at lw_m4 152 rfl) rfl
theorem q1010 : (Jvm.Cond.methodLink "java/util/LinkedHashMap" (53 : Nat) ({ cls := "java/util/LinkedHashMap", name := "removeEldestEntry", desc := "(Ljava/util/Map$Entry;)Z" } : Jvm.MethodName)) ∈ lw_all := lw_g (lw_at lw_m4 153 rfl) rfl
theorem q1011 : (Jvm.Cond.instanceMethod ({ cls := "java/util/LinkedHashMap", name := "removeEldestEntry", desc := "(Ljava/util/Map$Entry;)Z" } : Jvm.MethodName)) ∈ lw_all := lw_g (lw_at lw_m4 154 rfl) rfl
theorem q1012 : (Jvm.Cond.selects "java/util/LinkedHashMap" ({ cls := "java/util/LinkedHashMap", name := "removeEldestEntry", desc := "(Ljava/util/Map$Entry;)Z" } : Jvm.MethodName) ({ cls := "java/util/LinkedHashMap", name := "removeEldestEntry", desc := "(Ljava/util/Map$Entry;)Z" } : Jvm.MethodName)) ∈ lw_all := lw_g (lw_at lw_m4 155 rfl) rfl
theorem q1013 : (Jvm.Cond.code ({ cls := "java/util/LinkedHashMap", name := "removeEldestEntry", desc := "(Ljava/util/Map$Entry;)Z" } : Jvm.MethodName) prog_57_method_23_code (2 : Nat) (Option.some Jvm.ClassFile.FieldType.boolean)) ∈ lw_all := lw_g (lw_at lw_m4 156 rfl) rfl
theorem q1022 : (Jvm.Cond.instanceMethod ({ cls := "java/util/LinkedHashMap", name := "keySet", desc := "()Ljava/util/Set;" } : Jvm.MethodName)) ∈ lw_all := lw_g (lw_at lw_m4 165 rfl) rfl
theorem q1023 : (Jvm.Cond.selects "java/util/LinkedHashMap" ({ cls := "java/util/LinkedHashMap", name := "keySet", desc := "()Ljava/util/Set;" } : Jvm.MethodName) ({ cls := "java/util/LinkedHashMap", name := "keySet", desc := "()Ljava/util/Set;" } : Jvm.MethodName)) ∈ lw_all := lw_g (lw_at lw_m4 166 rfl) rfl
theorem q1024 : (Jvm.Cond.code ({ cls := "java/util/LinkedHashMap", name := "keySet", desc := "()Ljava/util/Set;" } : Jvm.MethodName) prog_57_method_24_code (1 : Nat) (Option.some (Jvm.ClassFile.FieldType.object "java/util/Set"))) ∈ lw_all := lw_g (lw_at lw_m4 167 rfl) rfl
theorem q1025 : (Jvm.Cond.methodLink "java/util/LinkedHashMap" (113 : Nat) ({ cls := "java/util/LinkedHashMap", name := "sequencedKeySet", desc := "()Ljava/util/SequencedSet;" } : Jvm.MethodName)) ∈ lw_all := lw_g (lw_at lw_m4 168 rfl) rfl
theorem q1026 : (Jvm.Cond.instanceMethod ({ cls := "java/util/LinkedHashMap", name := "sequencedKeySet", desc := "()Ljava/util/SequencedSet;" } : Jvm.MethodName)) ∈ lw_all := lw_g (lw_at lw_m4 169 rfl) rfl
theorem q1027 : (Jvm.Cond.selects "java/util/LinkedHashMap" ({ cls := "java/util/LinkedHashMap", name := "sequencedKeySet", desc := "()Ljava/util/SequencedSet;" } : Jvm.MethodName) ({ cls := "java/util/LinkedHashMap", name := "sequencedKeySet", desc := "()Ljava/util/SequencedSet;" } : Jvm.MethodName)) ∈ lw_all := lw_g (lw_at lw_m4 170 rfl) rfl
theorem q1028 : (Jvm.Cond.code ({ cls := "java/util/LinkedHashMap", name := "sequencedKeySet", desc := "()Ljava/util/SequencedSet;" } : Jvm.MethodName) prog_57_method_25_code (3 : Nat) (Option.some (Jvm.ClassFile.FieldType.object "java/util/SequencedSet"))) ∈ lw_all := lw_g (lw_at lw_m4 171 rfl) rfl
theorem q1029 : (Jvm.Cond.classLink "java/util/LinkedHashMap" (121 : Nat) "java/util/LinkedHashMap$LinkedKeySet") ∈ lw_all := lw_g (lw_at lw_m4 172 rfl) rfl
theorem q1031 : (Jvm.Cond.methodLink "java/util/LinkedHashMap" (123 : Nat) ({ cls := "java/util/LinkedHashMap$LinkedKeySet", name := "<init>", desc := "(Ljava/util/LinkedHashMap;Z)V" } : Jvm.MethodName)) ∈ lw_all := lw_g (lw_at lw_m4 174 rfl) rfl
theorem q1048 : (Jvm.Cond.classLink "java/util/LinkedHashMap" (126 : Nat) "java/util/SequencedSet") ∈ lw_all := lw_g (lw_at lw_m4 191 rfl) rfl
theorem q1094 : (Jvm.Cond.selects "java/util/LinkedHashMap" ({ cls := "java/util/HashMap", name := "keySet", desc := "()Ljava/util/Set;" } : Jvm.MethodName) ({ cls := "java/util/LinkedHashMap", name := "keySet", desc := "()Ljava/util/Set;" } : Jvm.MethodName)) ∈ lw_all := lw_g (lw_at lw_m4 237 rfl) rfl
theorem q1851 : (Jvm.Cond.selects "java/util/LinkedHashMap" ({ cls := "java/util/HashMap", name := "get", desc := "(Ljava/lang/Object;)Ljava/lang/Object;" } : Jvm.MethodName) ({ cls := "java/util/LinkedHashMap", name := "get", desc := "(Ljava/lang/Object;)Ljava/lang/Object;" } : Jvm.MethodName)) ∈ lw_all := lw_g (lw_at lw_m8 34 rfl) rfl
theorem q2722 : (Jvm.Cond.selects "java/util/LinkedHashMap" ({ cls := "java/util/HashMap", name := "put", desc := "(Ljava/lang/Object;Ljava/lang/Object;)Ljava/lang/Object;" } : Jvm.MethodName) ({ cls := "java/util/HashMap", name := "put", desc := "(Ljava/lang/Object;Ljava/lang/Object;)Ljava/lang/Object;" } : Jvm.MethodName)) ∈ lw_all := lw_g (lw_at lw_m11 185 rfl) rfl
theorem q2725 : (Jvm.Cond.selects "java/util/LinkedHashMap" ({ cls := "java/util/HashMap", name := "size", desc := "()I" } : Jvm.MethodName) ({ cls := "java/util/HashMap", name := "size", desc := "()I" } : Jvm.MethodName)) ∈ lw_all := lw_g (lw_at lw_m11 188 rfl) rfl
theorem q2728 : (Jvm.Cond.selects "java/util/LinkedHashMap" ({ cls := "java/util/HashMap", name := "containsKey", desc := "(Ljava/lang/Object;)Z" } : Jvm.MethodName) ({ cls := "java/util/HashMap", name := "containsKey", desc := "(Ljava/lang/Object;)Z" } : Jvm.MethodName)) ∈ lw_all := lw_g (lw_at lw_m11 191 rfl) rfl
theorem q2748 : (Jvm.Cond.castable "java/util/LinkedHashMap" "java/lang/Object") ∈ lw_tbl := lw_at lw_m11 211 rfl
theorem in_J6 : ∀ w ∈ wsJ60, w ∈ lw_all := lw_in wsJ60 [556, 558, 544, 546, 548, 550, 552, 554, 536, 538, 540, 542] (by decide +kernel) (by decide +kernel)

/-! java/lang/Number -/
set_option maxRecDepth 100000
def RJ7 : String := "java/lang/Number"
abbrev cJ7_init : ByteArray := prog_36_method_1_code
def yJ7_init : MethodName := ⟨RJ7, "<init>", "()V"⟩
theorem dJ7_init_0 : decode cJ7_init 0 = .ok (.aload_n 0, 1) := by decide +kernel
theorem dJ7_init_1 : decode cJ7_init 1 = .ok (.invokespecial 1, 3) := by decide +kernel
theorem dJ7_init_4 : decode cJ7_init 4 = .ok (.return_, 1) := by decide +kernel
theorem q156 : (Jvm.Cond.initialized "java/lang/Number") ∈ lw_all := lw_g (lw_at lw_m1 19 rfl) rfl
theorem q580 : (Jvm.Cond.instanceMethod ({ cls := "java/lang/Number", name := "<init>", desc := "()V" } : Jvm.MethodName)) ∈ lw_all := lw_g (lw_at lw_m2 203 rfl) rfl
theorem q581 : (Jvm.Cond.code ({ cls := "java/lang/Number", name := "<init>", desc := "()V" } : Jvm.MethodName) prog_36_method_1_code (1 : Nat) (Option.none : Option Jvm.ClassFile.FieldType)) ∈ lw_all := lw_g (lw_at lw_m2 204 rfl) rfl
theorem q582 : (Jvm.Cond.methodLink "java/lang/Number" (1 : Nat) ({ cls := "java/lang/Object", name := "<init>", desc := "()V" } : Jvm.MethodName)) ∈ lw_all := lw_g (lw_at lw_m2 205 rfl) rfl

/-! java/lang/Integer -/
set_option maxRecDepth 100000
def RJ8 : String := "java/lang/Integer"
def TJ8 : u_T := fun k => match k with
  | _ => ("java/lang/Integer", "value", "I", true)
def tyJ8 : Nat → FieldType := fun k => match k with
  | _ => .int
abbrev wsJ80 : List Cond := u_ws RJ8 TJ8 1
theorem nmJ8 : ∀ a, a < 1 → ∀ b, b < 1 → a ≠ b → (TJ8 a).2.1 ≠ (TJ8 b).2.1 := by decide +kernel
theorem tyJ8_ok : ∀ k, k < 1 → parseFieldDescriptor (TJ8 k).2.2.1 = some (tyJ8 k) := by decide +kernel
abbrev cJ8_valueOf : ByteArray := prog_32_method_22_code
def yJ8_valueOf : MethodName := ⟨RJ8, "valueOf", "(I)Ljava/lang/Integer;"⟩
def dkwJ8_valueOf_1 : List UInt8 := [187, 0, 1, 89, 26, 183, 0, 199, 176]
abbrev dktJ8_valueOf_1 : List UInt8 := dkwJ8_valueOf_1 ++ []
def dkwJ8_valueOf_0 : List UInt8 := [26, 16, 128, 161, 0, 20, 26, 178, 0, 191, 163, 0, 13, 178, 0, 195, 26, 17, 0, 128, 96, 50, 176]
abbrev dktJ8_valueOf_0 : List UInt8 := dkwJ8_valueOf_0 ++ dktJ8_valueOf_1
theorem dksJ8_valueOf_0 : cJ8_valueOf.data.toList.drop 0 = dktJ8_valueOf_0 := by decide +kernel
theorem dksJ8_valueOf_1 : cJ8_valueOf.data.toList.drop 23 = dktJ8_valueOf_1 := dk_seg dksJ8_valueOf_0 23 rfl rfl
theorem dJ8_valueOf_0 : decode cJ8_valueOf 0 = .ok (.iload_n 0, 1) := dk_26 (dk_at dksJ8_valueOf_0 0 rfl rfl)
theorem dJ8_valueOf_1 : decode cJ8_valueOf 1 = .ok (.bipush (-128), 2) := dk_16 128 (dk_at dksJ8_valueOf_0 1 rfl rfl)
theorem dJ8_valueOf_3 : decode cJ8_valueOf 3 = .ok (.if_icmp .lt 20, 3) := dk_161 0 20 (dk_at dksJ8_valueOf_0 3 rfl rfl)
theorem dJ8_valueOf_6 : decode cJ8_valueOf 6 = .ok (.iload_n 0, 1) := dk_26 (dk_at dksJ8_valueOf_0 6 rfl rfl)
theorem dJ8_valueOf_7 : decode cJ8_valueOf 7 = .ok (.getstatic 191, 3) := dk_178 0 191 (dk_at dksJ8_valueOf_0 7 rfl rfl)
theorem dJ8_valueOf_10 : decode cJ8_valueOf 10 = .ok (.if_icmp .gt 13, 3) := dk_163 0 13 (dk_at dksJ8_valueOf_0 10 rfl rfl)
theorem dJ8_valueOf_13 : decode cJ8_valueOf 13 = .ok (.getstatic 195, 3) := dk_178 0 195 (dk_at dksJ8_valueOf_0 13 rfl rfl)
theorem dJ8_valueOf_16 : decode cJ8_valueOf 16 = .ok (.iload_n 0, 1) := dk_26 (dk_at dksJ8_valueOf_0 16 rfl rfl)
theorem dJ8_valueOf_17 : decode cJ8_valueOf 17 = .ok (.sipush 128, 3) := dk_17 0 128 (dk_at dksJ8_valueOf_0 17 rfl rfl)
theorem dJ8_valueOf_20 : decode cJ8_valueOf 20 = .ok (.iadd, 1) := dk_96 (dk_at dksJ8_valueOf_0 20 rfl rfl)
theorem dJ8_valueOf_21 : decode cJ8_valueOf 21 = .ok (.aaload, 1) := dk_50 (dk_at dksJ8_valueOf_0 21 rfl rfl)
theorem dJ8_valueOf_22 : decode cJ8_valueOf 22 = .ok (.areturn, 1) := dk_176 (dk_at dksJ8_valueOf_0 22 rfl rfl)
theorem dJ8_valueOf_23 : decode cJ8_valueOf 23 = .ok (.new 1, 3) := dk_187 0 1 (dk_at dksJ8_valueOf_1 0 rfl rfl)
theorem dJ8_valueOf_26 : decode cJ8_valueOf 26 = .ok (.dup, 1) := dk_89 (dk_at dksJ8_valueOf_1 3 rfl rfl)
theorem dJ8_valueOf_27 : decode cJ8_valueOf 27 = .ok (.iload_n 0, 1) := dk_26 (dk_at dksJ8_valueOf_1 4 rfl rfl)
theorem dJ8_valueOf_28 : decode cJ8_valueOf 28 = .ok (.invokespecial 199, 3) := dk_183 0 199 (dk_at dksJ8_valueOf_1 5 rfl rfl)
theorem dJ8_valueOf_31 : decode cJ8_valueOf 31 = .ok (.areturn, 1) := dk_176 (dk_at dksJ8_valueOf_1 8 rfl rfl)
abbrev cJ8_init : ByteArray := prog_32_method_23_code
def yJ8_init : MethodName := ⟨RJ8, "<init>", "(I)V"⟩
def dkwJ8_init_0 : List UInt8 := [42, 183, 0, 202, 42, 27, 181, 0, 205, 177]
abbrev dktJ8_init_0 : List UInt8 := dkwJ8_init_0 ++ []
theorem dksJ8_init_0 : cJ8_init.data.toList.drop 0 = dktJ8_init_0 := by decide +kernel
theorem dJ8_init_0 : decode cJ8_init 0 = .ok (.aload_n 0, 1) := dk_42 (dk_at dksJ8_init_0 0 rfl rfl)
theorem dJ8_init_1 : decode cJ8_init 1 = .ok (.invokespecial 202, 3) := dk_183 0 202 (dk_at dksJ8_init_0 1 rfl rfl)
theorem dJ8_init_4 : decode cJ8_init 4 = .ok (.aload_n 0, 1) := dk_42 (dk_at dksJ8_init_0 4 rfl rfl)
theorem dJ8_init_5 : decode cJ8_init 5 = .ok (.iload_n 1, 1) := dk_27 (dk_at dksJ8_init_0 5 rfl rfl)
theorem dJ8_init_6 : decode cJ8_init 6 = .ok (.putfield 205, 3) := dk_181 0 205 (dk_at dksJ8_init_0 6 rfl rfl)
theorem dJ8_init_9 : decode cJ8_init 9 = .ok (.return_, 1) := dk_177 (dk_at dksJ8_init_0 9 rfl rfl)
abbrev cJ8_hashCode : ByteArray := prog_32_method_32_code
def yJ8_hashCode : MethodName := ⟨RJ8, "hashCode", "()I"⟩
def dkwJ8_hashCode_0 : List UInt8 := [42, 180, 0, 205, 184, 0, 208, 172]
abbrev dktJ8_hashCode_0 : List UInt8 := dkwJ8_hashCode_0 ++ []
theorem dksJ8_hashCode_0 : cJ8_hashCode.data.toList.drop 0 = dktJ8_hashCode_0 := by decide +kernel
theorem dJ8_hashCode_0 : decode cJ8_hashCode 0 = .ok (.aload_n 0, 1) := dk_42 (dk_at dksJ8_hashCode_0 0 rfl rfl)
theorem dJ8_hashCode_1 : decode cJ8_hashCode 1 = .ok (.getfield 205, 3) := dk_180 0 205 (dk_at dksJ8_hashCode_0 1 rfl rfl)
theorem dJ8_hashCode_4 : decode cJ8_hashCode 4 = .ok (.invokestatic 208, 3) := dk_184 0 208 (dk_at dksJ8_hashCode_0 4 rfl rfl)
theorem dJ8_hashCode_7 : decode cJ8_hashCode 7 = .ok (.ireturn, 1) := dk_172 (dk_at dksJ8_hashCode_0 7 rfl rfl)
abbrev cJ8_hashCode_2 : ByteArray := prog_32_method_33_code
def yJ8_hashCode_2 : MethodName := ⟨RJ8, "hashCode", "(I)I"⟩
theorem dJ8_hashCode_2_0 : decode cJ8_hashCode_2 0 = .ok (.iload_n 0, 1) := by decide +kernel
theorem dJ8_hashCode_2_1 : decode cJ8_hashCode_2 1 = .ok (.ireturn, 1) := by decide +kernel
abbrev cJ8_equals : ByteArray := prog_32_method_34_code
def yJ8_equals : MethodName := ⟨RJ8, "equals", "(Ljava/lang/Object;)Z"⟩
def dkwJ8_equals_1 : List UInt8 := [167, 0, 4, 3, 172, 3, 172]
abbrev dktJ8_equals_1 : List UInt8 := dkwJ8_equals_1 ++ []
def dkwJ8_equals_0 : List UInt8 := [43, 193, 0, 1, 153, 0, 23, 42, 180, 0, 205, 43, 192, 0, 1, 182, 0, 211, 160, 0, 7, 4]
abbrev dktJ8_equals_0 : List UInt8 := dkwJ8_equals_0 ++ dktJ8_equals_1
theorem dksJ8_equals_0 : cJ8_equals.data.toList.drop 0 = dktJ8_equals_0 := by decide +kernel
theorem dksJ8_equals_1 : cJ8_equals.data.toList.drop 22 = dktJ8_equals_1 := dk_seg dksJ8_equals_0 22 rfl rfl
theorem dJ8_equals_0 : decode cJ8_equals 0 = .ok (.aload_n 1, 1) := dk_43 (dk_at dksJ8_equals_0 0 rfl rfl)
theorem dJ8_equals_1 : decode cJ8_equals 1 = .ok (.instanceof 1, 3) := dk_193 0 1 (dk_at dksJ8_equals_0 1 rfl rfl)
theorem dJ8_equals_4 : decode cJ8_equals 4 = .ok (.ifCond .eq 23, 3) := dk_153 0 23 (dk_at dksJ8_equals_0 4 rfl rfl)
theorem dJ8_equals_7 : decode cJ8_equals 7 = .ok (.aload_n 0, 1) := dk_42 (dk_at dksJ8_equals_0 7 rfl rfl)
theorem dJ8_equals_8 : decode cJ8_equals 8 = .ok (.getfield 205, 3) := dk_180 0 205 (dk_at dksJ8_equals_0 8 rfl rfl)
theorem dJ8_equals_11 : decode cJ8_equals 11 = .ok (.aload_n 1, 1) := dk_43 (dk_at dksJ8_equals_0 11 rfl rfl)
theorem dJ8_equals_12 : decode cJ8_equals 12 = .ok (.checkcast 1, 3) := dk_192 0 1 (dk_at dksJ8_equals_0 12 rfl rfl)
theorem dJ8_equals_15 : decode cJ8_equals 15 = .ok (.invokevirtual 211, 3) := dk_182 0 211 (dk_at dksJ8_equals_0 15 rfl rfl)
theorem dJ8_equals_18 : decode cJ8_equals 18 = .ok (.if_icmp .ne 7, 3) := dk_160 0 7 (dk_at dksJ8_equals_0 18 rfl rfl)
theorem dJ8_equals_21 : decode cJ8_equals 21 = .ok (.iconst 1, 1) := dk_4 (dk_at dksJ8_equals_0 21 rfl rfl)
theorem dJ8_equals_22 : decode cJ8_equals 22 = .ok (.goto 4, 3) := dk_167 0 4 (dk_at dksJ8_equals_1 0 rfl rfl)
theorem dJ8_equals_25 : decode cJ8_equals 25 = .ok (.iconst 0, 1) := dk_3 (dk_at dksJ8_equals_1 3 rfl rfl)
theorem dJ8_equals_26 : decode cJ8_equals 26 = .ok (.ireturn, 1) := dk_172 (dk_at dksJ8_equals_1 4 rfl rfl)
theorem dJ8_equals_27 : decode cJ8_equals 27 = .ok (.iconst 0, 1) := dk_3 (dk_at dksJ8_equals_1 5 rfl rfl)
theorem dJ8_equals_28 : decode cJ8_equals 28 = .ok (.ireturn, 1) := dk_172 (dk_at dksJ8_equals_1 6 rfl rfl)
abbrev cJ8_intValue : ByteArray := prog_32_method_27_code
def yJ8_intValue : MethodName := ⟨RJ8, "intValue", "()I"⟩
theorem dJ8_intValue_0 : decode cJ8_intValue 0 = .ok (.aload_n 0, 1) := by decide +kernel
theorem dJ8_intValue_1 : decode cJ8_intValue 1 = .ok (.getfield 205, 3) := by decide +kernel
theorem dJ8_intValue_4 : decode cJ8_intValue 4 = .ok (.ireturn, 1) := by decide +kernel
abbrev cJ8_compareTo : ByteArray := prog_32_method_63_code
def yJ8_compareTo : MethodName := ⟨RJ8, "compareTo", "(Ljava/lang/Object;)I"⟩
def dkwJ8_compareTo_0 : List UInt8 := [42, 43, 192, 0, 1, 182, 1, 28, 172]
abbrev dktJ8_compareTo_0 : List UInt8 := dkwJ8_compareTo_0 ++ []
theorem dksJ8_compareTo_0 : cJ8_compareTo.data.toList.drop 0 = dktJ8_compareTo_0 := by decide +kernel
theorem dJ8_compareTo_0 : decode cJ8_compareTo 0 = .ok (.aload_n 0, 1) := dk_42 (dk_at dksJ8_compareTo_0 0 rfl rfl)
theorem dJ8_compareTo_1 : decode cJ8_compareTo 1 = .ok (.aload_n 1, 1) := dk_43 (dk_at dksJ8_compareTo_0 1 rfl rfl)
theorem dJ8_compareTo_2 : decode cJ8_compareTo 2 = .ok (.checkcast 1, 3) := dk_192 0 1 (dk_at dksJ8_compareTo_0 2 rfl rfl)
theorem dJ8_compareTo_5 : decode cJ8_compareTo 5 = .ok (.invokevirtual 284, 3) := dk_182 1 28 (dk_at dksJ8_compareTo_0 5 rfl rfl)
theorem dJ8_compareTo_8 : decode cJ8_compareTo 8 = .ok (.ireturn, 1) := dk_172 (dk_at dksJ8_compareTo_0 8 rfl rfl)
abbrev cJ8_compareTo_2 : ByteArray := prog_32_method_39_code
def yJ8_compareTo_2 : MethodName := ⟨RJ8, "compareTo", "(Ljava/lang/Integer;)I"⟩
def dkwJ8_compareTo_2_0 : List UInt8 := [42, 180, 0, 205, 43, 180, 0, 205, 184, 1, 3, 172]
abbrev dktJ8_compareTo_2_0 : List UInt8 := dkwJ8_compareTo_2_0 ++ []
theorem dksJ8_compareTo_2_0 : cJ8_compareTo_2.data.toList.drop 0 = dktJ8_compareTo_2_0 := by decide +kernel
theorem dJ8_compareTo_2_0 : decode cJ8_compareTo_2 0 = .ok (.aload_n 0, 1) := dk_42 (dk_at dksJ8_compareTo_2_0 0 rfl rfl)
theorem dJ8_compareTo_2_1 : decode cJ8_compareTo_2 1 = .ok (.getfield 205, 3) := dk_180 0 205 (dk_at dksJ8_compareTo_2_0 1 rfl rfl)
theorem dJ8_compareTo_2_4 : decode cJ8_compareTo_2 4 = .ok (.aload_n 1, 1) := dk_43 (dk_at dksJ8_compareTo_2_0 4 rfl rfl)
theorem dJ8_compareTo_2_5 : decode cJ8_compareTo_2 5 = .ok (.getfield 205, 3) := dk_180 0 205 (dk_at dksJ8_compareTo_2_0 5 rfl rfl)
theorem dJ8_compareTo_2_8 : decode cJ8_compareTo_2 8 = .ok (.invokestatic 259, 3) := dk_184 1 3 (dk_at dksJ8_compareTo_2_0 8 rfl rfl)
theorem dJ8_compareTo_2_11 : decode cJ8_compareTo_2 11 = .ok (.ireturn, 1) := dk_172 (dk_at dksJ8_compareTo_2_0 11 rfl rfl)
abbrev cJ8_compare : ByteArray := prog_32_method_40_code
def yJ8_compare : MethodName := ⟨RJ8, "compare", "(II)I"⟩
def dkwJ8_compare_0 : List UInt8 := [26, 27, 162, 0, 7, 2, 167, 0, 13, 26, 27, 160, 0, 7, 3, 167, 0, 4, 4, 172]
abbrev dktJ8_compare_0 : List UInt8 := dkwJ8_compare_0 ++ []
theorem dksJ8_compare_0 : cJ8_compare.data.toList.drop 0 = dktJ8_compare_0 := by decide +kernel
theorem dJ8_compare_0 : decode cJ8_compare 0 = .ok (.iload_n 0, 1) := dk_26 (dk_at dksJ8_compare_0 0 rfl rfl)
theorem dJ8_compare_1 : decode cJ8_compare 1 = .ok (.iload_n 1, 1) := dk_27 (dk_at dksJ8_compare_0 1 rfl rfl)
theorem dJ8_compare_2 : decode cJ8_compare 2 = .ok (.if_icmp .ge 7, 3) := dk_162 0 7 (dk_at dksJ8_compare_0 2 rfl rfl)
theorem dJ8_compare_5 : decode cJ8_compare 5 = .ok (.iconst (-1), 1) := dk_2 (dk_at dksJ8_compare_0 5 rfl rfl)
theorem dJ8_compare_6 : decode cJ8_compare 6 = .ok (.goto 13, 3) := dk_167 0 13 (dk_at dksJ8_compare_0 6 rfl rfl)
theorem dJ8_compare_9 : decode cJ8_compare 9 = .ok (.iload_n 0, 1) := dk_26 (dk_at dksJ8_compare_0 9 rfl rfl)
theorem dJ8_compare_10 : decode cJ8_compare 10 = .ok (.iload_n 1, 1) := dk_27 (dk_at dksJ8_compare_0 10 rfl rfl)
theorem dJ8_compare_11 : decode cJ8_compare 11 = .ok (.if_icmp .ne 7, 3) := dk_160 0 7 (dk_at dksJ8_compare_0 11 rfl rfl)
theorem dJ8_compare_14 : decode cJ8_compare 14 = .ok (.iconst 0, 1) := dk_3 (dk_at dksJ8_compare_0 14 rfl rfl)
theorem dJ8_compare_15 : decode cJ8_compare 15 = .ok (.goto 4, 3) := dk_167 0 4 (dk_at dksJ8_compare_0 15 rfl rfl)
theorem dJ8_compare_18 : decode cJ8_compare 18 = .ok (.iconst 1, 1) := dk_4 (dk_at dksJ8_compare_0 18 rfl rfl)
theorem dJ8_compare_19 : decode cJ8_compare 19 = .ok (.ireturn, 1) := dk_172 (dk_at dksJ8_compare_0 19 rfl rfl)
theorem q157 : (Jvm.Cond.initialized "java/lang/Integer") ∈ lw_all := lw_g (lw_at lw_m1 20 rfl) rfl
theorem q568 : (Jvm.Cond.static ({ cls := "java/lang/Integer", name := "valueOf", desc := "(I)Ljava/lang/Integer;" } : Jvm.MethodName)) ∈ lw_all := lw_g (lw_at lw_m2 191 rfl) rfl
theorem q569 : (Jvm.Cond.code ({ cls := "java/lang/Integer", name := "valueOf", desc := "(I)Ljava/lang/Integer;" } : Jvm.MethodName) prog_32_method_22_code (1 : Nat) (Option.some (Jvm.ClassFile.FieldType.object "java/lang/Integer"))) ∈ lw_all := lw_g (lw_at lw_m2 192 rfl) rfl
theorem q570 : (Jvm.Cond.fieldLink "java/lang/Integer" (191 : Nat) "java/lang/Integer$IntegerCache" "high" "I") ∈ lw_all := lw_g (lw_at lw_m2 193 rfl) rfl
theorem q572 : (Jvm.Cond.fieldLink "java/lang/Integer" (195 : Nat) "java/lang/Integer$IntegerCache" "cache" "[Ljava/lang/Integer;") ∈ lw_all := lw_g (lw_at lw_m2 195 rfl) rfl
theorem q574 : (Jvm.Cond.classLink "java/lang/Integer" (1 : Nat) "java/lang/Integer") ∈ lw_all := lw_g (lw_at lw_m2 197 rfl) rfl
theorem q575 : (Jvm.Cond.instantiable "java/lang/Integer" (1 : Nat)) ∈ lw_all := lw_g (lw_at lw_m2 198 rfl) rfl
theorem q576 : (Jvm.Cond.methodLink "java/lang/Integer" (199 : Nat) ({ cls := "java/lang/Integer", name := "<init>", desc := "(I)V" } : Jvm.MethodName)) ∈ lw_all := lw_g (lw_at lw_m2 199 rfl) rfl
theorem q577 : (Jvm.Cond.instanceMethod ({ cls := "java/lang/Integer", name := "<init>", desc := "(I)V" } : Jvm.MethodName)) ∈ lw_all := lw_g (lw_at lw_m2 200 rfl) rfl
theorem q578 : (Jvm.Cond.code ({ cls := "java/lang/Integer", name := "<init>", desc := "(I)V" } : Jvm.MethodName) prog_32_method_23_code (2 : Nat) (Option.none : Option Jvm.ClassFile.FieldType)) ∈ lw_all := lw_g (lw_at lw_m2 201 rfl) rfl
theorem q579 : (Jvm.Cond.methodLink "java/lang/Integer" (202 : Nat) ({ cls := "java/lang/Number", name := "<init>", desc := "()V" } : Jvm.MethodName)) ∈ lw_all := lw_g (lw_at lw_m2 202 rfl) rfl
theorem q583 : (Jvm.Cond.fieldLink "java/lang/Integer" (205 : Nat) "java/lang/Integer" "value" "I") ∈ lw_all := lw_g (lw_at lw_m2 206 rfl) rfl
theorem q584 : (Jvm.Cond.laysFinal "java/lang/Integer" "java/lang/Integer" "value" "I") ∈ lw_all := lw_g (lw_at lw_m2 207 rfl) rfl
theorem q585 : (Jvm.Cond.soleField "java/lang/Integer" "value") ∈ lw_all := lw_g (lw_at lw_m2 208 rfl) rfl
theorem q586 : (Jvm.Cond.superclass "java/lang/Integer" "java/lang/Number") ∈ lw_all := lw_g (lw_at lw_m2 209 rfl) rfl
theorem q657 : (Jvm.Cond.selects "java/lang/Integer" ({ cls := "java/lang/Object", name := "hashCode", desc := "()I" } : Jvm.MethodName) ({ cls := "java/lang/Integer", name := "hashCode", desc := "()I" } : Jvm.MethodName)) ∈ lw_all := lw_g (lw_at lw_m3 40 rfl) rfl
theorem q658 : (Jvm.Cond.instanceMethod ({ cls := "java/lang/Integer", name := "hashCode", desc := "()I" } : Jvm.MethodName)) ∈ lw_all := lw_g (lw_at lw_m3 41 rfl) rfl
theorem q659 : (Jvm.Cond.code ({ cls := "java/lang/Integer", name := "hashCode", desc := "()I" } : Jvm.MethodName) prog_32_method_32_code (1 : Nat) (Option.some Jvm.ClassFile.FieldType.int)) ∈ lw_all := lw_g (lw_at lw_m3 42 rfl) rfl
theorem q660 : (Jvm.Cond.methodLink "java/lang/Integer" (208 : Nat) ({ cls := "java/lang/Integer", name := "hashCode", desc := "(I)I" } : Jvm.MethodName)) ∈ lw_all := lw_g (lw_at lw_m3 43 rfl) rfl
theorem q661 : (Jvm.Cond.static ({ cls := "java/lang/Integer", name := "hashCode", desc := "(I)I" } : Jvm.MethodName)) ∈ lw_all := lw_g (lw_at lw_m3 44 rfl) rfl
theorem q662 : (Jvm.Cond.code ({ cls := "java/lang/Integer", name := "hashCode", desc := "(I)I" } : Jvm.MethodName) prog_32_method_33_code (1 : Nat) (Option.some Jvm.ClassFile.FieldType.int)) ∈ lw_all := lw_g (lw_at lw_m3 45 rfl) rfl
theorem q722 : (Jvm.Cond.selects "java/lang/Integer" ({ cls := "java/lang/Object", name := "equals", desc := "(Ljava/lang/Object;)Z" } : Jvm.MethodName) ({ cls := "java/lang/Integer", name := "equals", desc := "(Ljava/lang/Object;)Z" } : Jvm.MethodName)) ∈ lw_all := lw_g (lw_at lw_m3 105 rfl) rfl
theorem q723 : (Jvm.Cond.instanceMethod ({ cls := "java/lang/Integer", name := "equals", desc := "(Ljava/lang/Object;)Z" } : Jvm.MethodName)) ∈ lw_all := lw_g (lw_at lw_m3 106 rfl) rfl
theorem q724 : (Jvm.Cond.code ({ cls := "java/lang/Integer", name := "equals", desc := "(Ljava/lang/Object;)Z" } : Jvm.MethodName) prog_32_method_34_code (2 : Nat) (Option.some Jvm.ClassFile.FieldType.boolean)) ∈ lw_all := lw_g (lw_at lw_m3 107 rfl) rfl
theorem q725 : (Jvm.Cond.methodLink "java/lang/Integer" (211 : Nat) ({ cls := "java/lang/Integer", name := "intValue", desc := "()I" } : Jvm.MethodName)) ∈ lw_all := lw_g (lw_at lw_m3 108 rfl) rfl
theorem q726 : (Jvm.Cond.instanceMethod ({ cls := "java/lang/Integer", name := "intValue", desc := "()I" } : Jvm.MethodName)) ∈ lw_all := lw_g (lw_at lw_m3 109 rfl) rfl
theorem q727 : (Jvm.Cond.selects "java/lang/Integer" ({ cls := "java/lang/Integer", name := "intValue", desc := "()I" } : Jvm.MethodName) ({ cls := "java/lang/Integer", name := "intValue", desc := "()I" } : Jvm.MethodName)) ∈ lw_all := lw_g (lw_at lw_m3 110 rfl) rfl
theorem q728 : (Jvm.Cond.code ({ cls := "java/lang/Integer", name := "intValue", desc := "()I" } : Jvm.MethodName) prog_32_method_27_code (1 : Nat) (Option.some Jvm.ClassFile.FieldType.int)) ∈ lw_all := lw_g (lw_at lw_m3 111 rfl) rfl
theorem q771 : (Jvm.Cond.selects "java/lang/Integer" ({ cls := "java/lang/Object", name := "getClass", desc := "()Ljava/lang/Class;" } : Jvm.MethodName) ({ cls := "java/lang/Object", name := "getClass", desc := "()Ljava/lang/Class;" } : Jvm.MethodName)) ∈ lw_all := lw_g (lw_at lw_m3 154 rfl) rfl
theorem q791 : (Jvm.Cond.castable "java/lang/Integer" "java/lang/Comparable") ∈ lw_tbl := lw_at lw_m3 174 rfl
theorem q792 : (Jvm.Cond.selects "java/lang/Integer" ({ cls := "java/lang/Comparable", name := "compareTo", desc := "(Ljava/lang/Object;)I" } : Jvm.MethodName) ({ cls := "java/lang/Integer", name := "compareTo", desc := "(Ljava/lang/Object;)I" } : Jvm.MethodName)) ∈ lw_all := lw_g (lw_at lw_m3 175 rfl) rfl
theorem q793 : (Jvm.Cond.unhidden "java/lang/Integer" "compareTo" "(Ljava/lang/Object;)I") ∈ lw_tbl := lw_at lw_m3 176 rfl
theorem q794 : (Jvm.Cond.instanceMethod ({ cls := "java/lang/Integer", name := "compareTo", desc := "(Ljava/lang/Object;)I" } : Jvm.MethodName)) ∈ lw_all := lw_g (lw_at lw_m3 177 rfl) rfl
theorem q795 : (Jvm.Cond.publicMethod ({ cls := "java/lang/Integer", name := "compareTo", desc := "(Ljava/lang/Object;)I" } : Jvm.MethodName)) ∈ lw_tbl := lw_at lw_m3 178 rfl
theorem q796 : (Jvm.Cond.code ({ cls := "java/lang/Integer", name := "compareTo", desc := "(Ljava/lang/Object;)I" } : Jvm.MethodName) prog_32_method_63_code (2 : Nat) (Option.some Jvm.ClassFile.FieldType.int)) ∈ lw_all := lw_g (lw_at lw_m3 179 rfl) rfl
theorem q797 : (Jvm.Cond.methodLink "java/lang/Integer" (284 : Nat) ({ cls := "java/lang/Integer", name := "compareTo", desc := "(Ljava/lang/Integer;)I" } : Jvm.MethodName)) ∈ lw_all := lw_g (lw_at lw_m3 180 rfl) rfl
theorem q798 : (Jvm.Cond.instanceMethod ({ cls := "java/lang/Integer", name := "compareTo", desc := "(Ljava/lang/Integer;)I" } : Jvm.MethodName)) ∈ lw_all := lw_g (lw_at lw_m3 181 rfl) rfl
theorem q799 : (Jvm.Cond.selects "java/lang/Integer" ({ cls := "java/lang/Integer", name := "compareTo", desc := "(Ljava/lang/Integer;)I" } : Jvm.MethodName) ({ cls := "java/lang/Integer", name := "compareTo", desc := "(Ljava/lang/Integer;)I" } : Jvm.MethodName)) ∈ lw_all := lw_g (lw_at lw_m3 182 rfl) rfl
theorem q800 : (Jvm.Cond.code ({ cls := "java/lang/Integer", name := "compareTo", desc := "(Ljava/lang/Integer;)I" } : Jvm.MethodName) prog_32_method_39_code (2 : Nat) (Option.some Jvm.ClassFile.FieldType.int)) ∈ lw_all := lw_g (lw_at lw_m3 183 rfl) rfl
theorem q801 : (Jvm.Cond.methodLink "java/lang/Integer" (259 : Nat) ({ cls := "java/lang/Integer", name := "compare", desc := "(II)I" } : Jvm.MethodName)) ∈ lw_all := lw_g (lw_at lw_m3 184 rfl) rfl
theorem q802 : (Jvm.Cond.static ({ cls := "java/lang/Integer", name := "compare", desc := "(II)I" } : Jvm.MethodName)) ∈ lw_all := lw_g (lw_at lw_m3 185 rfl) rfl
theorem q803 : (Jvm.Cond.code ({ cls := "java/lang/Integer", name := "compare", desc := "(II)I" } : Jvm.MethodName) prog_32_method_40_code (2 : Nat) (Option.some Jvm.ClassFile.FieldType.int)) ∈ lw_all := lw_g (lw_at lw_m3 186 rfl) rfl
theorem q2749 : (Jvm.Cond.castable "java/lang/Integer" "java/lang/Object") ∈ lw_tbl := lw_at lw_m11 212 rfl
theorem in_J8 : ∀ w ∈ wsJ80, w ∈ lw_all := lw_in wsJ80 [584] (by decide +kernel) (by decide +kernel)

/-! java/util/HashMap$Node -/
set_option maxRecDepth 100000
def RJ9 : String := "java/util/HashMap$Node"
def TJ9 : u_T := fun k => match k with
  | 0 => ("java/util/HashMap$Node", "hash", "I", true)
  | 1 => ("java/util/HashMap$Node", "key", "Ljava/lang/Object;", true)
  | 2 => ("java/util/HashMap$Node", "value", "Ljava/lang/Object;", false)
  | _ => ("java/util/HashMap$Node", "next", "Ljava/util/HashMap$Node;", false)
def tyJ9 : Nat → FieldType := fun k => match k with
  | 0 => .int
  | 1 => .object "java/lang/Object"
  | 2 => .object "java/lang/Object"
  | _ => .object "java/util/HashMap$Node"
abbrev wsJ90 : List Cond := u_ws RJ9 TJ9 4
theorem nmJ9 : ∀ a, a < 4 → ∀ b, b < 4 → a ≠ b → (TJ9 a).2.1 ≠ (TJ9 b).2.1 := by decide +kernel
theorem tyJ9_ok : ∀ k, k < 4 → parseFieldDescriptor (TJ9 k).2.2.1 = some (tyJ9 k) := by decide +kernel
abbrev cJ9_init : ByteArray := prog_53_method_1_code
def yJ9_init : MethodName := ⟨RJ9, "<init>", "(ILjava/lang/Object;Ljava/lang/Object;Ljava/util/HashMap$Node;)V"⟩
def dkwJ9_init_1 : List UInt8 := [181, 0, 20, 177]
abbrev dktJ9_init_1 : List UInt8 := dkwJ9_init_1 ++ []
def dkwJ9_init_0 : List UInt8 := [42, 183, 0, 1, 42, 27, 181, 0, 7, 42, 44, 181, 0, 13, 42, 45, 181, 0, 17, 42, 25, 4]
abbrev dktJ9_init_0 : List UInt8 := dkwJ9_init_0 ++ dktJ9_init_1
theorem dksJ9_init_0 : cJ9_init.data.toList.drop 0 = dktJ9_init_0 := by decide +kernel
theorem dksJ9_init_1 : cJ9_init.data.toList.drop 22 = dktJ9_init_1 := dk_seg dksJ9_init_0 22 rfl rfl
theorem dJ9_init_0 : decode cJ9_init 0 = .ok (.aload_n 0, 1) := dk_42 (dk_at dksJ9_init_0 0 rfl rfl)
theorem dJ9_init_1 : decode cJ9_init 1 = .ok (.invokespecial 1, 3) := dk_183 0 1 (dk_at dksJ9_init_0 1 rfl rfl)
theorem dJ9_init_4 : decode cJ9_init 4 = .ok (.aload_n 0, 1) := dk_42 (dk_at dksJ9_init_0 4 rfl rfl)
theorem dJ9_init_5 : decode cJ9_init 5 = .ok (.iload_n 1, 1) := dk_27 (dk_at dksJ9_init_0 5 rfl rfl)
theorem dJ9_init_6 : decode cJ9_init 6 = .ok (.putfield 7, 3) := dk_181 0 7 (dk_at dksJ9_init_0 6 rfl rfl)
theorem dJ9_init_9 : decode cJ9_init 9 = .ok (.aload_n 0, 1) := dk_42 (dk_at dksJ9_init_0 9 rfl rfl)
theorem dJ9_init_10 : decode cJ9_init 10 = .ok (.aload_n 2, 1) := dk_44 (dk_at dksJ9_init_0 10 rfl rfl)
theorem dJ9_init_11 : decode cJ9_init 11 = .ok (.putfield 13, 3) := dk_181 0 13 (dk_at dksJ9_init_0 11 rfl rfl)
theorem dJ9_init_14 : decode cJ9_init 14 = .ok (.aload_n 0, 1) := dk_42 (dk_at dksJ9_init_0 14 rfl rfl)
theorem dJ9_init_15 : decode cJ9_init 15 = .ok (.aload_n 3, 1) := dk_45 (dk_at dksJ9_init_0 15 rfl rfl)
theorem dJ9_init_16 : decode cJ9_init 16 = .ok (.putfield 17, 3) := dk_181 0 17 (dk_at dksJ9_init_0 16 rfl rfl)
theorem dJ9_init_19 : decode cJ9_init 19 = .ok (.aload_n 0, 1) := dk_42 (dk_at dksJ9_init_0 19 rfl rfl)
theorem dJ9_init_20 : decode cJ9_init 20 = .ok (.aload 4, 2) := dk_25 4 (dk_at dksJ9_init_0 20 rfl rfl)
theorem dJ9_init_22 : decode cJ9_init 22 = .ok (.putfield 20, 3) := dk_181 0 20 (dk_at dksJ9_init_1 0 rfl rfl)
theorem dJ9_init_25 : decode cJ9_init 25 = .ok (.return_, 1) := dk_177 (dk_at dksJ9_init_1 3 rfl rfl)
abbrev cJ9_getKey : ByteArray := prog_53_method_2_code
def yJ9_getKey : MethodName := ⟨RJ9, "getKey", "()Ljava/lang/Object;"⟩
theorem dJ9_getKey_0 : decode cJ9_getKey 0 = .ok (.aload_n 0, 1) := by decide +kernel
theorem dJ9_getKey_1 : decode cJ9_getKey 1 = .ok (.getfield 13, 3) := by decide +kernel
theorem dJ9_getKey_4 : decode cJ9_getKey 4 = .ok (.areturn, 1) := by decide +kernel
theorem q159 : (Jvm.Cond.initialized "java/util/HashMap$Node") ∈ lw_all := lw_g (lw_at lw_m1 22 rfl) rfl
theorem q775 : (Jvm.Cond.selects "java/util/HashMap$Node" ({ cls := "java/lang/Object", name := "getClass", desc := "()Ljava/lang/Class;" } : Jvm.MethodName) ({ cls := "java/lang/Object", name := "getClass", desc := "()Ljava/lang/Class;" } : Jvm.MethodName)) ∈ lw_all := lw_g (lw_at lw_m3 158 rfl) rfl
theorem q853 : (Jvm.Cond.instanceMethod ({ cls := "java/util/HashMap$Node", name := "<init>", desc := "(ILjava/lang/Object;Ljava/lang/Object;Ljava/util/HashMap$Node;)V" } : Jvm.MethodName)) ∈ lw_all := lw_g (lw_at lw_m3 236 rfl) rfl
theorem q854 : (Jvm.Cond.code ({ cls := "java/util/HashMap$Node", name := "<init>", desc := "(ILjava/lang/Object;Ljava/lang/Object;Ljava/util/HashMap$Node;)V" } : Jvm.MethodName) prog_53_method_1_code (5 : Nat) (Option.none : Option Jvm.ClassFile.FieldType)) ∈ lw_all := lw_g (lw_at lw_m3 237 rfl) rfl
theorem q855 : (Jvm.Cond.methodLink "java/util/HashMap$Node" (1 : Nat) ({ cls := "java/lang/Object", name := "<init>", desc := "()V" } : Jvm.MethodName)) ∈ lw_all := lw_g (lw_at lw_m3 238 rfl) rfl
theorem q860 : (Jvm.Cond.fieldLink "java/util/HashMap$Node" (7 : Nat) "java/util/HashMap$Node" "hash" "I") ∈ lw_all := lw_g (lw_at lw_m4 3 rfl) rfl
theorem q866 : (Jvm.Cond.fieldLink "java/util/HashMap$Node" (13 : Nat) "java/util/HashMap$Node" "key" "Ljava/lang/Object;") ∈ lw_all := lw_g (lw_at lw_m4 9 rfl) rfl
theorem q873 : (Jvm.Cond.fieldLink "java/util/HashMap$Node" (17 : Nat) "java/util/HashMap$Node" "value" "Ljava/lang/Object;") ∈ lw_all := lw_g (lw_at lw_m4 16 rfl) rfl
theorem q878 : (Jvm.Cond.fieldLink "java/util/HashMap$Node" (20 : Nat) "java/util/HashMap$Node" "next" "Ljava/util/HashMap$Node;") ∈ lw_all := lw_g (lw_at lw_m4 21 rfl) rfl
theorem q890 : (Jvm.Cond.soleField "java/util/HashMap$Node" "hash") ∈ lw_all := lw_g (lw_at lw_m4 33 rfl) rfl
theorem q892 : (Jvm.Cond.soleField "java/util/HashMap$Node" "key") ∈ lw_all := lw_g (lw_at lw_m4 35 rfl) rfl
theorem q894 : (Jvm.Cond.soleField "java/util/HashMap$Node" "value") ∈ lw_all := lw_g (lw_at lw_m4 37 rfl) rfl
theorem q896 : (Jvm.Cond.soleField "java/util/HashMap$Node" "next") ∈ lw_all := lw_g (lw_at lw_m4 39 rfl) rfl
theorem q903 : (Jvm.Cond.instantiable "java/util/HashMap$Node" (4 : Nat)) ∈ lw_all := lw_g (lw_at lw_m4 46 rfl) rfl
theorem q905 : (Jvm.Cond.laysFinal "java/util/HashMap$Node" "java/util/HashMap$Node" "hash" "I") ∈ lw_all := lw_g (lw_at lw_m4 48 rfl) rfl
theorem q906 : (Jvm.Cond.laysFinal "java/util/HashMap$Node" "java/util/HashMap$Node" "key" "Ljava/lang/Object;") ∈ lw_all := lw_g (lw_at lw_m4 49 rfl) rfl
theorem q907 : (Jvm.Cond.lays "java/util/HashMap$Node" "java/util/HashMap$Node" "value" "Ljava/lang/Object;") ∈ lw_all := lw_g (lw_at lw_m4 50 rfl) rfl
theorem q908 : (Jvm.Cond.lays "java/util/HashMap$Node" "java/util/HashMap$Node" "next" "Ljava/util/HashMap$Node;") ∈ lw_all := lw_g (lw_at lw_m4 51 rfl) rfl
theorem q909 : (Jvm.Cond.superclass "java/util/HashMap$Node" "java/lang/Object") ∈ lw_all := lw_g (lw_at lw_m4 52 rfl) rfl
theorem q1183 : (Jvm.Cond.declares ({ cls := "java/util/HashMap$Node", name := "getKey", desc := "()Ljava/lang/Object;" } : Jvm.MethodName)) ∈ lw_tbl := lw_at lw_m5 86 rfl
theorem q1186 : (Jvm.Cond.instanceMethod ({ cls := "java/util/HashMap$Node", name := "getKey", desc := "()Ljava/lang/Object;" } : Jvm.MethodName)) ∈ lw_all := lw_g (lw_at lw_m5 89 rfl) rfl
theorem q1187 : (Jvm.Cond.code ({ cls := "java/util/HashMap$Node", name := "getKey", desc := "()Ljava/lang/Object;" } : Jvm.MethodName) prog_53_method_2_code (1 : Nat) (Option.some (Jvm.ClassFile.FieldType.object "java/lang/Object"))) ∈ lw_all := lw_g (lw_at lw_m5 90 rfl) rfl
theorem q2750 : (Jvm.Cond.castable "java/util/HashMap$Node" "java/lang/Object") ∈ lw_tbl := lw_at lw_m11 213 rfl
theorem in_J9 : ∀ w ∈ wsJ90, w ∈ lw_all := lw_in wsJ90 [905, 906, 907, 908] (by decide +kernel) (by decide +kernel)

/-! java/util/LinkedHashMap$Entry -/
set_option maxRecDepth 100000
def RJ10 : String := "java/util/LinkedHashMap$Entry"
def TJ10 : u_T := fun k => match k with
  | 0 => ("java/util/HashMap$Node", "hash", "I", true)
  | 1 => ("java/util/HashMap$Node", "key", "Ljava/lang/Object;", true)
  | 2 => ("java/util/HashMap$Node", "value", "Ljava/lang/Object;", false)
  | 3 => ("java/util/HashMap$Node", "next", "Ljava/util/HashMap$Node;", false)
  | 4 => ("java/util/LinkedHashMap$Entry", "before", "Ljava/util/LinkedHashMap$Entry;", false)
  | _ => ("java/util/LinkedHashMap$Entry", "after", "Ljava/util/LinkedHashMap$Entry;", false)
def tyJ10 : Nat → FieldType := fun k => match k with
  | 0 => .int
  | 1 => .object "java/lang/Object"
  | 2 => .object "java/lang/Object"
  | 3 => .object "java/util/HashMap$Node"
  | 4 => .object "java/util/LinkedHashMap$Entry"
  | _ => .object "java/util/LinkedHashMap$Entry"
abbrev wsJ100 : List Cond := u_ws RJ10 TJ10 6
theorem nmJ10 : ∀ a, a < 6 → ∀ b, b < 6 → a ≠ b → (TJ10 a).2.1 ≠ (TJ10 b).2.1 := by decide +kernel
theorem tyJ10_ok : ∀ k, k < 6 → parseFieldDescriptor (TJ10 k).2.2.1 = some (tyJ10 k) := by decide +kernel
abbrev cJ10_init : ByteArray := prog_58_method_1_code
def yJ10_init : MethodName := ⟨RJ10, "<init>", "(ILjava/lang/Object;Ljava/lang/Object;Ljava/util/HashMap$Node;)V"⟩
def dkwJ10_init_0 : List UInt8 := [42, 27, 44, 45, 25, 4, 183, 0, 1, 177]
abbrev dktJ10_init_0 : List UInt8 := dkwJ10_init_0 ++ []
theorem dksJ10_init_0 : cJ10_init.data.toList.drop 0 = dktJ10_init_0 := by decide +kernel
theorem dJ10_init_0 : decode cJ10_init 0 = .ok (.aload_n 0, 1) := dk_42 (dk_at dksJ10_init_0 0 rfl rfl)
theorem dJ10_init_1 : decode cJ10_init 1 = .ok (.iload_n 1, 1) := dk_27 (dk_at dksJ10_init_0 1 rfl rfl)
theorem dJ10_init_2 : decode cJ10_init 2 = .ok (.aload_n 2, 1) := dk_44 (dk_at dksJ10_init_0 2 rfl rfl)
theorem dJ10_init_3 : decode cJ10_init 3 = .ok (.aload_n 3, 1) := dk_45 (dk_at dksJ10_init_0 3 rfl rfl)
theorem dJ10_init_4 : decode cJ10_init 4 = .ok (.aload 4, 2) := dk_25 4 (dk_at dksJ10_init_0 4 rfl rfl)
theorem dJ10_init_6 : decode cJ10_init 6 = .ok (.invokespecial 1, 3) := dk_183 0 1 (dk_at dksJ10_init_0 6 rfl rfl)
theorem dJ10_init_9 : decode cJ10_init 9 = .ok (.return_, 1) := dk_177 (dk_at dksJ10_init_0 9 rfl rfl)
theorem q160 : (Jvm.Cond.initialized "java/util/LinkedHashMap$Entry") ∈ lw_all := lw_g (lw_at lw_m1 23 rfl) rfl
theorem q779 : (Jvm.Cond.selects "java/util/LinkedHashMap$Entry" ({ cls := "java/lang/Object", name := "getClass", desc := "()Ljava/lang/Class;" } : Jvm.MethodName) ({ cls := "java/lang/Object", name := "getClass", desc := "()Ljava/lang/Class;" } : Jvm.MethodName)) ∈ lw_all := lw_g (lw_at lw_m3 162 rfl) rfl
theorem q848 : (Jvm.Cond.instantiable "java/util/LinkedHashMap$Entry" (6 : Nat)) ∈ lw_all := lw_g (lw_at lw_m3 231 rfl) rfl
theorem q850 : (Jvm.Cond.instanceMethod ({ cls := "java/util/LinkedHashMap$Entry", name := "<init>", desc := "(ILjava/lang/Object;Ljava/lang/Object;Ljava/util/HashMap$Node;)V" } : Jvm.MethodName)) ∈ lw_all := lw_g (lw_at lw_m3 233 rfl) rfl
theorem q851 : (Jvm.Cond.code ({ cls := "java/util/LinkedHashMap$Entry", name := "<init>", desc := "(ILjava/lang/Object;Ljava/lang/Object;Ljava/util/HashMap$Node;)V" } : Jvm.MethodName) prog_58_method_1_code (5 : Nat) (Option.none : Option Jvm.ClassFile.FieldType)) ∈ lw_all := lw_g (lw_at lw_m3 234 rfl) rfl
theorem q852 : (Jvm.Cond.methodLink "java/util/LinkedHashMap$Entry" (1 : Nat) ({ cls := "java/util/HashMap$Node", name := "<init>", desc := "(ILjava/lang/Object;Ljava/lang/Object;Ljava/util/HashMap$Node;)V" } : Jvm.MethodName)) ∈ lw_all := lw_g (lw_at lw_m3 235 rfl) rfl
theorem q864 : (Jvm.Cond.sameField "java/util/LinkedHashMap$Entry" "java/util/HashMap$Node" "hash" "I") ∈ lw_all := lw_g (lw_at lw_m4 7 rfl) rfl
theorem q871 : (Jvm.Cond.sameField "java/util/LinkedHashMap$Entry" "java/util/HashMap$Node" "key" "Ljava/lang/Object;") ∈ lw_all := lw_g (lw_at lw_m4 14 rfl) rfl
theorem q875 : (Jvm.Cond.sameField "java/util/LinkedHashMap$Entry" "java/util/HashMap$Node" "value" "Ljava/lang/Object;") ∈ lw_all := lw_g (lw_at lw_m4 18 rfl) rfl
theorem q885 : (Jvm.Cond.lays "java/util/LinkedHashMap$Entry" "java/util/LinkedHashMap$Entry" "before" "Ljava/util/LinkedHashMap$Entry;") ∈ lw_all := lw_g (lw_at lw_m4 28 rfl) rfl
theorem q886 : (Jvm.Cond.soleField "java/util/LinkedHashMap$Entry" "before") ∈ lw_all := lw_g (lw_at lw_m4 29 rfl) rfl
theorem q887 : (Jvm.Cond.lays "java/util/LinkedHashMap$Entry" "java/util/LinkedHashMap$Entry" "after" "Ljava/util/LinkedHashMap$Entry;") ∈ lw_all := lw_g (lw_at lw_m4 30 rfl) rfl
theorem q888 : (Jvm.Cond.soleField "java/util/LinkedHashMap$Entry" "after") ∈ lw_all := lw_g (lw_at lw_m4 31 rfl) rfl
theorem q889 : (Jvm.Cond.laysFinal "java/util/LinkedHashMap$Entry" "java/util/HashMap$Node" "hash" "I") ∈ lw_all := lw_g (lw_at lw_m4 32 rfl) rfl
theorem q891 : (Jvm.Cond.laysFinal "java/util/LinkedHashMap$Entry" "java/util/HashMap$Node" "key" "Ljava/lang/Object;") ∈ lw_all := lw_g (lw_at lw_m4 34 rfl) rfl
theorem q893 : (Jvm.Cond.lays "java/util/LinkedHashMap$Entry" "java/util/HashMap$Node" "value" "Ljava/lang/Object;") ∈ lw_all := lw_g (lw_at lw_m4 36 rfl) rfl
theorem q895 : (Jvm.Cond.lays "java/util/LinkedHashMap$Entry" "java/util/HashMap$Node" "next" "Ljava/util/HashMap$Node;") ∈ lw_all := lw_g (lw_at lw_m4 38 rfl) rfl
theorem q897 : (Jvm.Cond.superclass "java/util/LinkedHashMap$Entry" "java/util/HashMap$Node") ∈ lw_all := lw_g (lw_at lw_m4 40 rfl) rfl
theorem q1182 : (Jvm.Cond.sameMethod "java/util/LinkedHashMap$Entry" "java/util/HashMap$Node" "getKey" "()Ljava/lang/Object;") ∈ lw_all := lw_g (lw_at lw_m5 85 rfl) rfl
theorem q1185 : (Jvm.Cond.selects "java/util/LinkedHashMap$Entry" ({ cls := "java/util/LinkedHashMap$Entry", name := "getKey", desc := "()Ljava/lang/Object;" } : Jvm.MethodName) ({ cls := "java/util/HashMap$Node", name := "getKey", desc := "()Ljava/lang/Object;" } : Jvm.MethodName)) ∈ lw_all := lw_g (lw_at lw_m5 88 rfl) rfl
theorem q2751 : (Jvm.Cond.castable "java/util/LinkedHashMap$Entry" "java/lang/Object") ∈ lw_tbl := lw_at lw_m11 214 rfl
theorem q2772 : (Jvm.Cond.castable "java/util/LinkedHashMap$Entry" "java/util/HashMap$Node") ∈ lw_tbl := lw_at lw_m11 235 rfl
theorem in_J10 : ∀ w ∈ wsJ100, w ∈ lw_all := lw_in wsJ100 [889, 891, 893, 895, 885, 887] (by decide +kernel) (by decide +kernel)

/-! java/util/AbstractCollection -/
set_option maxRecDepth 100000
def RJ12 : String := "java/util/AbstractCollection"
abbrev cJ12_init : ByteArray := prog_43_method_1_code
def yJ12_init : MethodName := ⟨RJ12, "<init>", "()V"⟩
theorem dJ12_init_0 : decode cJ12_init 0 = .ok (.aload_n 0, 1) := by decide +kernel
theorem dJ12_init_1 : decode cJ12_init 1 = .ok (.invokespecial 1, 3) := by decide +kernel
theorem dJ12_init_4 : decode cJ12_init 4 = .ok (.return_, 1) := by decide +kernel
theorem q163 : (Jvm.Cond.initialized "java/util/AbstractCollection") ∈ lw_all := lw_g (lw_at lw_m1 26 rfl) rfl
theorem q1038 : (Jvm.Cond.instanceMethod ({ cls := "java/util/AbstractCollection", name := "<init>", desc := "()V" } : Jvm.MethodName)) ∈ lw_all := lw_g (lw_at lw_m4 181 rfl) rfl
theorem q1039 : (Jvm.Cond.code ({ cls := "java/util/AbstractCollection", name := "<init>", desc := "()V" } : Jvm.MethodName) prog_43_method_1_code (1 : Nat) (Option.none : Option Jvm.ClassFile.FieldType)) ∈ lw_all := lw_g (lw_at lw_m4 182 rfl) rfl
theorem q1040 : (Jvm.Cond.methodLink "java/util/AbstractCollection" (1 : Nat) ({ cls := "java/lang/Object", name := "<init>", desc := "()V" } : Jvm.MethodName)) ∈ lw_all := lw_g (lw_at lw_m4 183 rfl) rfl

/-! java/util/AbstractSet -/
set_option maxRecDepth 100000
def RJ13 : String := "java/util/AbstractSet"
abbrev cJ13_init : ByteArray := prog_46_method_1_code
def yJ13_init : MethodName := ⟨RJ13, "<init>", "()V"⟩
theorem dJ13_init_0 : decode cJ13_init 0 = .ok (.aload_n 0, 1) := by decide +kernel
theorem dJ13_init_1 : decode cJ13_init 1 = .ok (.invokespecial 1, 3) := by decide +kernel
theorem dJ13_init_4 : decode cJ13_init 4 = .ok (.return_, 1) := by decide +kernel
theorem q164 : (Jvm.Cond.initialized "java/util/AbstractSet") ∈ lw_all := lw_g (lw_at lw_m1 27 rfl) rfl
theorem q1035 : (Jvm.Cond.instanceMethod ({ cls := "java/util/AbstractSet", name := "<init>", desc := "()V" } : Jvm.MethodName)) ∈ lw_all := lw_g (lw_at lw_m4 178 rfl) rfl
theorem q1036 : (Jvm.Cond.code ({ cls := "java/util/AbstractSet", name := "<init>", desc := "()V" } : Jvm.MethodName) prog_46_method_1_code (1 : Nat) (Option.none : Option Jvm.ClassFile.FieldType)) ∈ lw_all := lw_g (lw_at lw_m4 179 rfl) rfl
theorem q1037 : (Jvm.Cond.methodLink "java/util/AbstractSet" (1 : Nat) ({ cls := "java/util/AbstractCollection", name := "<init>", desc := "()V" } : Jvm.MethodName)) ∈ lw_all := lw_g (lw_at lw_m4 180 rfl) rfl

/-! java/util/LinkedHashMap$LinkedKeySet -/
set_option maxRecDepth 100000
def RJ14 : String := "java/util/LinkedHashMap$LinkedKeySet"
def TJ14 : u_T := fun k => match k with
  | 0 => ("java/util/LinkedHashMap$LinkedKeySet", "reversed", "Z", true)
  | _ => ("java/util/LinkedHashMap$LinkedKeySet", "this$0", "Ljava/util/LinkedHashMap;", true)
def tyJ14 : Nat → FieldType := fun k => match k with
  | 0 => .boolean
  | _ => .object "java/util/LinkedHashMap"
abbrev wsJ140 : List Cond := u_ws RJ14 TJ14 2
theorem nmJ14 : ∀ a, a < 2 → ∀ b, b < 2 → a ≠ b → (TJ14 a).2.1 ≠ (TJ14 b).2.1 := by decide +kernel
theorem tyJ14_ok : ∀ k, k < 2 → parseFieldDescriptor (TJ14 k).2.2.1 = some (tyJ14 k) := by decide +kernel
abbrev cJ14_init : ByteArray := prog_61_method_1_code
def yJ14_init : MethodName := ⟨RJ14, "<init>", "(Ljava/util/LinkedHashMap;Z)V"⟩
def dkwJ14_init_0 : List UInt8 := [42, 43, 181, 0, 1, 42, 183, 0, 7, 42, 28, 181, 0, 13, 177]
abbrev dktJ14_init_0 : List UInt8 := dkwJ14_init_0 ++ []
theorem dksJ14_init_0 : cJ14_init.data.toList.drop 0 = dktJ14_init_0 := by decide +kernel
theorem dJ14_init_0 : decode cJ14_init 0 = .ok (.aload_n 0, 1) := dk_42 (dk_at dksJ14_init_0 0 rfl rfl)
theorem dJ14_init_1 : decode cJ14_init 1 = .ok (.aload_n 1, 1) := dk_43 (dk_at dksJ14_init_0 1 rfl rfl)
theorem dJ14_init_2 : decode cJ14_init 2 = .ok (.putfield 1, 3) := dk_181 0 1 (dk_at dksJ14_init_0 2 rfl rfl)
theorem dJ14_init_5 : decode cJ14_init 5 = .ok (.aload_n 0, 1) := dk_42 (dk_at dksJ14_init_0 5 rfl rfl)
theorem dJ14_init_6 : decode cJ14_init 6 = .ok (.invokespecial 7, 3) := dk_183 0 7 (dk_at dksJ14_init_0 6 rfl rfl)
theorem dJ14_init_9 : decode cJ14_init 9 = .ok (.aload_n 0, 1) := dk_42 (dk_at dksJ14_init_0 9 rfl rfl)
theorem dJ14_init_10 : decode cJ14_init 10 = .ok (.iload_n 2, 1) := dk_28 (dk_at dksJ14_init_0 10 rfl rfl)
theorem dJ14_init_11 : decode cJ14_init 11 = .ok (.putfield 13, 3) := dk_181 0 13 (dk_at dksJ14_init_0 11 rfl rfl)
theorem dJ14_init_14 : decode cJ14_init 14 = .ok (.return_, 1) := dk_177 (dk_at dksJ14_init_0 14 rfl rfl)
abbrev cJ14_iterator : ByteArray := prog_61_method_4_code
def yJ14_iterator : MethodName := ⟨RJ14, "iterator", "()Ljava/util/Iterator;"⟩
def dkwJ14_iterator_0 : List UInt8 := [187, 0, 26, 89, 42, 180, 0, 1, 42, 180, 0, 13, 183, 0, 28, 176]
abbrev dktJ14_iterator_0 : List UInt8 := dkwJ14_iterator_0 ++ []
theorem dksJ14_iterator_0 : cJ14_iterator.data.toList.drop 0 = dktJ14_iterator_0 := by decide +kernel
theorem dJ14_iterator_0 : decode cJ14_iterator 0 = .ok (.new 26, 3) := dk_187 0 26 (dk_at dksJ14_iterator_0 0 rfl rfl)
theorem dJ14_iterator_3 : decode cJ14_iterator 3 = .ok (.dup, 1) := dk_89 (dk_at dksJ14_iterator_0 3 rfl rfl)
theorem dJ14_iterator_4 : decode cJ14_iterator 4 = .ok (.aload_n 0, 1) := dk_42 (dk_at dksJ14_iterator_0 4 rfl rfl)
theorem dJ14_iterator_5 : decode cJ14_iterator 5 = .ok (.getfield 1, 3) := dk_180 0 1 (dk_at dksJ14_iterator_0 5 rfl rfl)
theorem dJ14_iterator_8 : decode cJ14_iterator 8 = .ok (.aload_n 0, 1) := dk_42 (dk_at dksJ14_iterator_0 8 rfl rfl)
theorem dJ14_iterator_9 : decode cJ14_iterator 9 = .ok (.getfield 13, 3) := dk_180 0 13 (dk_at dksJ14_iterator_0 9 rfl rfl)
theorem dJ14_iterator_12 : decode cJ14_iterator 12 = .ok (.invokespecial 28, 3) := dk_183 0 28 (dk_at dksJ14_iterator_0 12 rfl rfl)
theorem dJ14_iterator_15 : decode cJ14_iterator 15 = .ok (.areturn, 1) := dk_176 (dk_at dksJ14_iterator_0 15 rfl rfl)
theorem q165 : (Jvm.Cond.initialized "java/util/LinkedHashMap$LinkedKeySet") ∈ lw_all := lw_g (lw_at lw_m1 28 rfl) rfl
theorem q781 : (Jvm.Cond.selects "java/util/LinkedHashMap$LinkedKeySet" ({ cls := "java/lang/Object", name := "getClass", desc := "()Ljava/lang/Class;" } : Jvm.MethodName) ({ cls := "java/lang/Object", name := "getClass", desc := "()Ljava/lang/Class;" } : Jvm.MethodName)) ∈ lw_all := lw_g (lw_at lw_m3 164 rfl) rfl
theorem q1030 : (Jvm.Cond.instantiable "java/util/LinkedHashMap$LinkedKeySet" (2 : Nat)) ∈ lw_all := lw_g (lw_at lw_m4 173 rfl) rfl
theorem q1032 : (Jvm.Cond.instanceMethod ({ cls := "java/util/LinkedHashMap$LinkedKeySet", name := "<init>", desc := "(Ljava/util/LinkedHashMap;Z)V" } : Jvm.MethodName)) ∈ lw_all := lw_g (lw_at lw_m4 175 rfl) rfl
theorem q1033 : (Jvm.Cond.code ({ cls := "java/util/LinkedHashMap$LinkedKeySet", name := "<init>", desc := "(Ljava/util/LinkedHashMap;Z)V" } : Jvm.MethodName) prog_61_method_1_code (3 : Nat) (Option.none : Option Jvm.ClassFile.FieldType)) ∈ lw_all := lw_g (lw_at lw_m4 176 rfl) rfl
theorem q1034 : (Jvm.Cond.methodLink "java/util/LinkedHashMap$LinkedKeySet" (7 : Nat) ({ cls := "java/util/AbstractSet", name := "<init>", desc := "()V" } : Jvm.MethodName)) ∈ lw_all := lw_g (lw_at lw_m4 177 rfl) rfl
theorem q1041 : (Jvm.Cond.fieldLink "java/util/LinkedHashMap$LinkedKeySet" (13 : Nat) "java/util/LinkedHashMap$LinkedKeySet" "reversed" "Z") ∈ lw_all := lw_g (lw_at lw_m4 184 rfl) rfl
theorem q1042 : (Jvm.Cond.fieldLink "java/util/LinkedHashMap$LinkedKeySet" (1 : Nat) "java/util/LinkedHashMap$LinkedKeySet" "this$0" "Ljava/util/LinkedHashMap;") ∈ lw_all := lw_g (lw_at lw_m4 185 rfl) rfl
theorem q1043 : (Jvm.Cond.laysFinal "java/util/LinkedHashMap$LinkedKeySet" "java/util/LinkedHashMap$LinkedKeySet" "reversed" "Z") ∈ lw_all := lw_g (lw_at lw_m4 186 rfl) rfl
theorem q1044 : (Jvm.Cond.soleField "java/util/LinkedHashMap$LinkedKeySet" "reversed") ∈ lw_all := lw_g (lw_at lw_m4 187 rfl) rfl
theorem q1045 : (Jvm.Cond.laysFinal "java/util/LinkedHashMap$LinkedKeySet" "java/util/LinkedHashMap$LinkedKeySet" "this$0" "Ljava/util/LinkedHashMap;") ∈ lw_all := lw_g (lw_at lw_m4 188 rfl) rfl
theorem q1046 : (Jvm.Cond.soleField "java/util/LinkedHashMap$LinkedKeySet" "this$0") ∈ lw_all := lw_g (lw_at lw_m4 189 rfl) rfl
theorem q1047 : (Jvm.Cond.superclass "java/util/LinkedHashMap$LinkedKeySet" "java/util/AbstractSet") ∈ lw_all := lw_g (lw_at lw_m4 190 rfl) rfl
theorem q1108 : (Jvm.Cond.castable "java/util/LinkedHashMap$LinkedKeySet" "java/util/Set") ∈ lw_tbl := lw_at lw_m5 11 rfl
theorem q1109 : (Jvm.Cond.selects "java/util/LinkedHashMap$LinkedKeySet" ({ cls := "java/util/Set", name := "iterator", desc := "()Ljava/util/Iterator;" } : Jvm.MethodName) ({ cls := "java/util/LinkedHashMap$LinkedKeySet", name := "iterator", desc := "()Ljava/util/Iterator;" } : Jvm.MethodName)) ∈ lw_all := lw_g (lw_at lw_m5 12 rfl) rfl
theorem q1110 : (Jvm.Cond.unhidden "java/util/LinkedHashMap$LinkedKeySet" "iterator" "()Ljava/util/Iterator;") ∈ lw_tbl := lw_at lw_m5 13 rfl
theorem q1111 : (Jvm.Cond.instanceMethod ({ cls := "java/util/LinkedHashMap$LinkedKeySet", name := "iterator", desc := "()Ljava/util/Iterator;" } : Jvm.MethodName)) ∈ lw_all := lw_g (lw_at lw_m5 14 rfl) rfl
theorem q1112 : (Jvm.Cond.publicMethod ({ cls := "java/util/LinkedHashMap$LinkedKeySet", name := "iterator", desc := "()Ljava/util/Iterator;" } : Jvm.MethodName)) ∈ lw_tbl := lw_at lw_m5 15 rfl
theorem q1113 : (Jvm.Cond.code ({ cls := "java/util/LinkedHashMap$LinkedKeySet", name := "iterator", desc := "()Ljava/util/Iterator;" } : Jvm.MethodName) prog_61_method_4_code (1 : Nat) (Option.some (Jvm.ClassFile.FieldType.object "java/util/Iterator"))) ∈ lw_all := lw_g (lw_at lw_m5 16 rfl) rfl
theorem q1114 : (Jvm.Cond.classLink "java/util/LinkedHashMap$LinkedKeySet" (26 : Nat) "java/util/LinkedHashMap$LinkedKeyIterator") ∈ lw_all := lw_g (lw_at lw_m5 17 rfl) rfl
theorem q1116 : (Jvm.Cond.methodLink "java/util/LinkedHashMap$LinkedKeySet" (28 : Nat) ({ cls := "java/util/LinkedHashMap$LinkedKeyIterator", name := "<init>", desc := "(Ljava/util/LinkedHashMap;Z)V" } : Jvm.MethodName)) ∈ lw_all := lw_g (lw_at lw_m5 19 rfl) rfl
theorem q2732 : (Jvm.Cond.castable "java/util/LinkedHashMap$LinkedKeySet" "java/util/SequencedSet") ∈ lw_tbl := lw_at lw_m11 195 rfl
theorem q2754 : (Jvm.Cond.castable "java/util/LinkedHashMap$LinkedKeySet" "java/lang/Object") ∈ lw_tbl := lw_at lw_m11 217 rfl
theorem in_J14 : ∀ w ∈ wsJ140, w ∈ lw_all := lw_in wsJ140 [1043, 1045] (by decide +kernel) (by decide +kernel)

/-! java/util/HashMap$HashIterator -/
set_option maxRecDepth 100000
def RJ15 : String := "java/util/HashMap$HashIterator"
abbrev cJ15_init : ByteArray := prog_50_method_1_code
def yJ15_init : MethodName := ⟨RJ15, "<init>", "(Ljava/util/HashMap;)V"⟩
def dkwJ15_init_3 : List UInt8 := [181, 0, 26, 198, 255, 229, 177]
abbrev dktJ15_init_3 : List UInt8 := dkwJ15_init_3 ++ []
def dkwJ15_init_2 : List UInt8 := [42, 180, 0, 33, 44, 190, 162, 0, 24, 42, 44, 42, 89, 180, 0, 33, 90, 4, 96, 181, 0, 33, 50, 90]
abbrev dktJ15_init_2 : List UInt8 := dkwJ15_init_2 ++ dktJ15_init_3
def dkwJ15_init_1 : List UInt8 := [1, 90, 181, 0, 26, 181, 0, 30, 42, 3, 181, 0, 33, 44, 198, 0, 40, 43, 180, 0, 36, 158, 0, 33]
abbrev dktJ15_init_1 : List UInt8 := dkwJ15_init_1 ++ dktJ15_init_2
def dkwJ15_init_0 : List UInt8 := [42, 43, 181, 0, 1, 42, 183, 0, 7, 42, 43, 180, 0, 13, 181, 0, 19, 43, 180, 0, 22, 77, 42, 42]
abbrev dktJ15_init_0 : List UInt8 := dkwJ15_init_0 ++ dktJ15_init_1
theorem dksJ15_init_0 : cJ15_init.data.toList.drop 0 = dktJ15_init_0 := by decide +kernel
theorem dksJ15_init_1 : cJ15_init.data.toList.drop 24 = dktJ15_init_1 := dk_seg dksJ15_init_0 24 rfl rfl
theorem dksJ15_init_2 : cJ15_init.data.toList.drop 48 = dktJ15_init_2 := dk_seg dksJ15_init_1 24 rfl rfl
theorem dksJ15_init_3 : cJ15_init.data.toList.drop 72 = dktJ15_init_3 := dk_seg dksJ15_init_2 24 rfl rfl
theorem dJ15_init_0 : decode cJ15_init 0 = .ok (.aload_n 0, 1) := dk_42 (dk_at dksJ15_init_0 0 rfl rfl)
theorem dJ15_init_1 : decode cJ15_init 1 = .ok (.aload_n 1, 1) := dk_43 (dk_at dksJ15_init_0 1 rfl rfl)
theorem dJ15_init_2 : decode cJ15_init 2 = .ok (.putfield 1, 3) := dk_181 0 1 (dk_at dksJ15_init_0 2 rfl rfl)
theorem dJ15_init_5 : decode cJ15_init 5 = .ok (.aload_n 0, 1) := dk_42 (dk_at dksJ15_init_0 5 rfl rfl)
theorem dJ15_init_6 : decode cJ15_init 6 = .ok (.invokespecial 7, 3) := dk_183 0 7 (dk_at dksJ15_init_0 6 rfl rfl)
theorem dJ15_init_9 : decode cJ15_init 9 = .ok (.aload_n 0, 1) := dk_42 (dk_at dksJ15_init_0 9 rfl rfl)
theorem dJ15_init_10 : decode cJ15_init 10 = .ok (.aload_n 1, 1) := dk_43 (dk_at dksJ15_init_0 10 rfl rfl)
theorem dJ15_init_11 : decode cJ15_init 11 = .ok (.getfield 13, 3) := dk_180 0 13 (dk_at dksJ15_init_0 11 rfl rfl)
theorem dJ15_init_14 : decode cJ15_init 14 = .ok (.putfield 19, 3) := dk_181 0 19 (dk_at dksJ15_init_0 14 rfl rfl)
theorem dJ15_init_17 : decode cJ15_init 17 = .ok (.aload_n 1, 1) := dk_43 (dk_at dksJ15_init_0 17 rfl rfl)
theorem dJ15_init_18 : decode cJ15_init 18 = .ok (.getfield 22, 3) := dk_180 0 22 (dk_at dksJ15_init_0 18 rfl rfl)
theorem dJ15_init_21 : decode cJ15_init 21 = .ok (.astore_n 2, 1) := dk_77 (dk_at dksJ15_init_0 21 rfl rfl)
theorem dJ15_init_22 : decode cJ15_init 22 = .ok (.aload_n 0, 1) := dk_42 (dk_at dksJ15_init_0 22 rfl rfl)
theorem dJ15_init_23 : decode cJ15_init 23 = .ok (.aload_n 0, 1) := dk_42 (dk_at dksJ15_init_0 23 rfl rfl)
theorem dJ15_init_24 : decode cJ15_init 24 = .ok (.aconst_null, 1) := dk_1 (dk_at dksJ15_init_1 0 rfl rfl)
theorem dJ15_init_25 : decode cJ15_init 25 = .ok (.dup_x1, 1) := dk_90 (dk_at dksJ15_init_1 1 rfl rfl)
theorem dJ15_init_26 : decode cJ15_init 26 = .ok (.putfield 26, 3) := dk_181 0 26 (dk_at dksJ15_init_1 2 rfl rfl)
theorem dJ15_init_29 : decode cJ15_init 29 = .ok (.putfield 30, 3) := dk_181 0 30 (dk_at dksJ15_init_1 5 rfl rfl)
theorem dJ15_init_32 : decode cJ15_init 32 = .ok (.aload_n 0, 1) := dk_42 (dk_at dksJ15_init_1 8 rfl rfl)
theorem dJ15_init_33 : decode cJ15_init 33 = .ok (.iconst 0, 1) := dk_3 (dk_at dksJ15_init_1 9 rfl rfl)
theorem dJ15_init_34 : decode cJ15_init 34 = .ok (.putfield 33, 3) := dk_181 0 33 (dk_at dksJ15_init_1 10 rfl rfl)
theorem dJ15_init_37 : decode cJ15_init 37 = .ok (.aload_n 2, 1) := dk_44 (dk_at dksJ15_init_1 13 rfl rfl)
theorem dJ15_init_38 : decode cJ15_init 38 = .ok (.ifnull 40, 3) := dk_198 0 40 (dk_at dksJ15_init_1 14 rfl rfl)
theorem dJ15_init_41 : decode cJ15_init 41 = .ok (.aload_n 1, 1) := dk_43 (dk_at dksJ15_init_1 17 rfl rfl)
theorem dJ15_init_42 : decode cJ15_init 42 = .ok (.getfield 36, 3) := dk_180 0 36 (dk_at dksJ15_init_1 18 rfl rfl)
theorem dJ15_init_45 : decode cJ15_init 45 = .ok (.ifCond .le 33, 3) := dk_158 0 33 (dk_at dksJ15_init_1 21 rfl rfl)
theorem dJ15_init_48 : decode cJ15_init 48 = .ok (.aload_n 0, 1) := dk_42 (dk_at dksJ15_init_2 0 rfl rfl)
theorem dJ15_init_49 : decode cJ15_init 49 = .ok (.getfield 33, 3) := dk_180 0 33 (dk_at dksJ15_init_2 1 rfl rfl)
theorem dJ15_init_52 : decode cJ15_init 52 = .ok (.aload_n 2, 1) := dk_44 (dk_at dksJ15_init_2 4 rfl rfl)
theorem dJ15_init_53 : decode cJ15_init 53 = .ok (.arraylength, 1) := dk_190 (dk_at dksJ15_init_2 5 rfl rfl)
theorem dJ15_init_54 : decode cJ15_init 54 = .ok (.if_icmp .ge 24, 3) := dk_162 0 24 (dk_at dksJ15_init_2 6 rfl rfl)
theorem dJ15_init_57 : decode cJ15_init 57 = .ok (.aload_n 0, 1) := dk_42 (dk_at dksJ15_init_2 9 rfl rfl)
theorem dJ15_init_58 : decode cJ15_init 58 = .ok (.aload_n 2, 1) := dk_44 (dk_at dksJ15_init_2 10 rfl rfl)
theorem dJ15_init_59 : decode cJ15_init 59 = .ok (.aload_n 0, 1) := dk_42 (dk_at dksJ15_init_2 11 rfl rfl)
theorem dJ15_init_60 : decode cJ15_init 60 = .ok (.dup, 1) := dk_89 (dk_at dksJ15_init_2 12 rfl rfl)
theorem dJ15_init_61 : decode cJ15_init 61 = .ok (.getfield 33, 3) := dk_180 0 33 (dk_at dksJ15_init_2 13 rfl rfl)
theorem dJ15_init_64 : decode cJ15_init 64 = .ok (.dup_x1, 1) := dk_90 (dk_at dksJ15_init_2 16 rfl rfl)
theorem dJ15_init_65 : decode cJ15_init 65 = .ok (.iconst 1, 1) := dk_4 (dk_at dksJ15_init_2 17 rfl rfl)
theorem dJ15_init_66 : decode cJ15_init 66 = .ok (.iadd, 1) := dk_96 (dk_at dksJ15_init_2 18 rfl rfl)
theorem dJ15_init_67 : decode cJ15_init 67 = .ok (.putfield 33, 3) := dk_181 0 33 (dk_at dksJ15_init_2 19 rfl rfl)
theorem dJ15_init_70 : decode cJ15_init 70 = .ok (.aaload, 1) := dk_50 (dk_at dksJ15_init_2 22 rfl rfl)
theorem dJ15_init_71 : decode cJ15_init 71 = .ok (.dup_x1, 1) := dk_90 (dk_at dksJ15_init_2 23 rfl rfl)
theorem dJ15_init_72 : decode cJ15_init 72 = .ok (.putfield 26, 3) := dk_181 0 26 (dk_at dksJ15_init_3 0 rfl rfl)
theorem dJ15_init_75 : decode cJ15_init 75 = .ok (.ifnull (-27), 3) := dk_198 255 229 (dk_at dksJ15_init_3 3 rfl rfl)
theorem dJ15_init_78 : decode cJ15_init 78 = .ok (.return_, 1) := dk_177 (dk_at dksJ15_init_3 6 rfl rfl)
abbrev cJ15_hasNext : ByteArray := prog_50_method_2_code
def yJ15_hasNext : MethodName := ⟨RJ15, "hasNext", "()Z"⟩
def dkwJ15_hasNext_0 : List UInt8 := [42, 180, 0, 26, 198, 0, 7, 4, 167, 0, 4, 3, 172]
abbrev dktJ15_hasNext_0 : List UInt8 := dkwJ15_hasNext_0 ++ []
theorem dksJ15_hasNext_0 : cJ15_hasNext.data.toList.drop 0 = dktJ15_hasNext_0 := by decide +kernel
theorem dJ15_hasNext_0 : decode cJ15_hasNext 0 = .ok (.aload_n 0, 1) := dk_42 (dk_at dksJ15_hasNext_0 0 rfl rfl)
theorem dJ15_hasNext_1 : decode cJ15_hasNext 1 = .ok (.getfield 26, 3) := dk_180 0 26 (dk_at dksJ15_hasNext_0 1 rfl rfl)
theorem dJ15_hasNext_4 : decode cJ15_hasNext 4 = .ok (.ifnull 7, 3) := dk_198 0 7 (dk_at dksJ15_hasNext_0 4 rfl rfl)
theorem dJ15_hasNext_7 : decode cJ15_hasNext 7 = .ok (.iconst 1, 1) := dk_4 (dk_at dksJ15_hasNext_0 7 rfl rfl)
theorem dJ15_hasNext_8 : decode cJ15_hasNext 8 = .ok (.goto 4, 3) := dk_167 0 4 (dk_at dksJ15_hasNext_0 8 rfl rfl)
theorem dJ15_hasNext_11 : decode cJ15_hasNext 11 = .ok (.iconst 0, 1) := dk_3 (dk_at dksJ15_hasNext_0 11 rfl rfl)
theorem dJ15_hasNext_12 : decode cJ15_hasNext 12 = .ok (.ireturn, 1) := dk_172 (dk_at dksJ15_hasNext_0 12 rfl rfl)
abbrev cJ15_nextNode : ByteArray := prog_50_method_3_code
def yJ15_nextNode : MethodName := ⟨RJ15, "nextNode", "()Ljava/util/HashMap$Node;"⟩
def dkwJ15_nextNode_4 : List UInt8 := [181, 0, 26, 198, 255, 229, 44, 176]
abbrev dktJ15_nextNode_4 : List UInt8 := dkwJ15_nextNode_4 ++ []
def dkwJ15_nextNode_3 : List UInt8 := [180, 0, 33, 43, 190, 162, 0, 24, 42, 43, 42, 89, 180, 0, 33, 90, 4, 96, 181, 0, 33, 50, 90]
abbrev dktJ15_nextNode_3 : List UInt8 := dkwJ15_nextNode_3 ++ dktJ15_nextNode_4
def dkwJ15_nextNode_2 : List UInt8 := [180, 0, 45, 90, 181, 0, 26, 199, 0, 45, 42, 180, 0, 1, 180, 0, 22, 89, 76, 198, 0, 33, 42]
abbrev dktJ15_nextNode_2 : List UInt8 := dkwJ15_nextNode_2 ++ dktJ15_nextNode_3
def dkwJ15_nextNode_1 : List UInt8 := [183, 0, 41, 191, 44, 199, 0, 11, 187, 0, 42, 89, 183, 0, 44, 191, 42, 42, 44, 90, 181, 0, 30]
abbrev dktJ15_nextNode_1 : List UInt8 := dkwJ15_nextNode_1 ++ dktJ15_nextNode_2
def dkwJ15_nextNode_0 : List UInt8 := [42, 180, 0, 26, 77, 42, 180, 0, 1, 180, 0, 13, 42, 180, 0, 19, 159, 0, 11, 187, 0, 39, 89]
abbrev dktJ15_nextNode_0 : List UInt8 := dkwJ15_nextNode_0 ++ dktJ15_nextNode_1
theorem dksJ15_nextNode_0 : cJ15_nextNode.data.toList.drop 0 = dktJ15_nextNode_0 := by decide +kernel
theorem dksJ15_nextNode_1 : cJ15_nextNode.data.toList.drop 23 = dktJ15_nextNode_1 := dk_seg dksJ15_nextNode_0 23 rfl rfl
theorem dksJ15_nextNode_2 : cJ15_nextNode.data.toList.drop 46 = dktJ15_nextNode_2 := dk_seg dksJ15_nextNode_1 23 rfl rfl
theorem dksJ15_nextNode_3 : cJ15_nextNode.data.toList.drop 69 = dktJ15_nextNode_3 := dk_seg dksJ15_nextNode_2 23 rfl rfl
theorem dksJ15_nextNode_4 : cJ15_nextNode.data.toList.drop 92 = dktJ15_nextNode_4 := dk_seg dksJ15_nextNode_3 23 rfl rfl
theorem dJ15_nextNode_0 : decode cJ15_nextNode 0 = .ok (.aload_n 0, 1) := dk_42 (dk_at dksJ15_nextNode_0 0 rfl rfl)
theorem dJ15_nextNode_1 : decode cJ15_nextNode 1 = .ok (.getfield 26, 3) := dk_180 0 26 (dk_at dksJ15_nextNode_0 1 rfl rfl)
theorem dJ15_nextNode_4 : decode cJ15_nextNode 4 = .ok (.astore_n 2, 1) := dk_77 (dk_at dksJ15_nextNode_0 4 rfl rfl)
theorem dJ15_nextNode_5 : decode cJ15_nextNode 5 = .ok (.aload_n 0, 1) := dk_42 (dk_at dksJ15_nextNode_0 5 rfl rfl)
theorem dJ15_nextNode_6 : decode cJ15_nextNode 6 = .ok (.getfield 1, 3) := dk_180 0 1 (dk_at dksJ15_nextNode_0 6 rfl rfl)
theorem dJ15_nextNode_9 : decode cJ15_nextNode 9 = .ok (.getfield 13, 3) := dk_180 0 13 (dk_at dksJ15_nextNode_0 9 rfl rfl)
theorem dJ15_nextNode_12 : decode cJ15_nextNode 12 = .ok (.aload_n 0, 1) := dk_42 (dk_at dksJ15_nextNode_0 12 rfl rfl)
theorem dJ15_nextNode_13 : decode cJ15_nextNode 13 = .ok (.getfield 19, 3) := dk_180 0 19 (dk_at dksJ15_nextNode_0 13 rfl rfl)
theorem dJ15_nextNode_16 : decode cJ15_nextNode 16 = .ok (.if_icmp .eq 11, 3) := dk_159 0 11 (dk_at dksJ15_nextNode_0 16 rfl rfl)
theorem dJ15_nextNode_19 : decode cJ15_nextNode 19 = .ok (.new 39, 3) := dk_187 0 39 (dk_at dksJ15_nextNode_0 19 rfl rfl)
theorem dJ15_nextNode_22 : decode cJ15_nextNode 22 = .ok (.dup, 1) := dk_89 (dk_at dksJ15_nextNode_0 22 rfl rfl)
theorem dJ15_nextNode_23 : decode cJ15_nextNode 23 = .ok (.invokespecial 41, 3) := dk_183 0 41 (dk_at dksJ15_nextNode_1 0 rfl rfl)
theorem dJ15_nextNode_26 : decode cJ15_nextNode 26 = .ok (.athrow, 1) := dk_191 (dk_at dksJ15_nextNode_1 3 rfl rfl)
theorem dJ15_nextNode_27 : decode cJ15_nextNode 27 = .ok (.aload_n 2, 1) := dk_44 (dk_at dksJ15_nextNode_1 4 rfl rfl)
theorem dJ15_nextNode_28 : decode cJ15_nextNode 28 = .ok (.ifnonnull 11, 3) := dk_199 0 11 (dk_at dksJ15_nextNode_1 5 rfl rfl)
theorem dJ15_nextNode_31 : decode cJ15_nextNode 31 = .ok (.new 42, 3) := dk_187 0 42 (dk_at dksJ15_nextNode_1 8 rfl rfl)
theorem dJ15_nextNode_34 : decode cJ15_nextNode 34 = .ok (.dup, 1) := dk_89 (dk_at dksJ15_nextNode_1 11 rfl rfl)
theorem dJ15_nextNode_35 : decode cJ15_nextNode 35 = .ok (.invokespecial 44, 3) := dk_183 0 44 (dk_at dksJ15_nextNode_1 12 rfl rfl)
theorem dJ15_nextNode_38 : decode cJ15_nextNode 38 = .ok (.athrow, 1) := dk_191 (dk_at dksJ15_nextNode_1 15 rfl rfl)
theorem dJ15_nextNode_39 : decode cJ15_nextNode 39 = .ok (.aload_n 0, 1) := dk_42 (dk_at dksJ15_nextNode_1 16 rfl rfl)
theorem dJ15_nextNode_40 : decode cJ15_nextNode 40 = .ok (.aload_n 0, 1) := dk_42 (dk_at dksJ15_nextNode_1 17 rfl rfl)
theorem dJ15_nextNode_41 : decode cJ15_nextNode 41 = .ok (.aload_n 2, 1) := dk_44 (dk_at dksJ15_nextNode_1 18 rfl rfl)
theorem dJ15_nextNode_42 : decode cJ15_nextNode 42 = .ok (.dup_x1, 1) := dk_90 (dk_at dksJ15_nextNode_1 19 rfl rfl)
theorem dJ15_nextNode_43 : decode cJ15_nextNode 43 = .ok (.putfield 30, 3) := dk_181 0 30 (dk_at dksJ15_nextNode_1 20 rfl rfl)
theorem dJ15_nextNode_46 : decode cJ15_nextNode 46 = .ok (.getfield 45, 3) := dk_180 0 45 (dk_at dksJ15_nextNode_2 0 rfl rfl)
theorem dJ15_nextNode_49 : decode cJ15_nextNode 49 = .ok (.dup_x1, 1) := dk_90 (dk_at dksJ15_nextNode_2 3 rfl rfl)
theorem dJ15_nextNode_50 : decode cJ15_nextNode 50 = .ok (.putfield 26, 3) := dk_181 0 26 (dk_at dksJ15_nextNode_2 4 rfl rfl)
theorem dJ15_nextNode_53 : decode cJ15_nextNode 53 = .ok (.ifnonnull 45, 3) := dk_199 0 45 (dk_at dksJ15_nextNode_2 7 rfl rfl)
theorem dJ15_nextNode_56 : decode cJ15_nextNode 56 = .ok (.aload_n 0, 1) := dk_42 (dk_at dksJ15_nextNode_2 10 rfl rfl)
theorem dJ15_nextNode_57 : decode cJ15_nextNode 57 = .ok (.getfield 1, 3) := dk_180 0 1 (dk_at dksJ15_nextNode_2 11 rfl rfl)
theorem dJ15_nextNode_60 : decode cJ15_nextNode 60 = .ok (.getfield 22, 3) := dk_180 0 22 (dk_at dksJ15_nextNode_2 14 rfl rfl)
theorem dJ15_nextNode_63 : decode cJ15_nextNode 63 = .ok (.dup, 1) := dk_89 (dk_at dksJ15_nextNode_2 17 rfl rfl)
theorem dJ15_nextNode_64 : decode cJ15_nextNode 64 = .ok (.astore_n 1, 1) := dk_76 (dk_at dksJ15_nextNode_2 18 rfl rfl)
theorem dJ15_nextNode_65 : decode cJ15_nextNode 65 = .ok (.ifnull 33, 3) := dk_198 0 33 (dk_at dksJ15_nextNode_2 19 rfl rfl)
theorem dJ15_nextNode_68 : decode cJ15_nextNode 68 = .ok (.aload_n 0, 1) := dk_42 (dk_at dksJ15_nextNode_2 22 rfl rfl)
theorem dJ15_nextNode_69 : decode cJ15_nextNode 69 = .ok (.getfield 33, 3) := dk_180 0 33 (dk_at dksJ15_nextNode_3 0 rfl rfl)
theorem dJ15_nextNode_72 : decode cJ15_nextNode 72 = .ok (.aload_n 1, 1) := dk_43 (dk_at dksJ15_nextNode_3 3 rfl rfl)
theorem dJ15_nextNode_73 : decode cJ15_nextNode 73 = .ok (.arraylength, 1) := dk_190 (dk_at dksJ15_nextNode_3 4 rfl rfl)
theorem dJ15_nextNode_74 : decode cJ15_nextNode 74 = .ok (.if_icmp .ge 24, 3) := dk_162 0 24 (dk_at dksJ15_nextNode_3 5 rfl rfl)
theorem dJ15_nextNode_77 : decode cJ15_nextNode 77 = .ok (.aload_n 0, 1) := dk_42 (dk_at dksJ15_nextNode_3 8 rfl rfl)
theorem dJ15_nextNode_78 : decode cJ15_nextNode 78 = .ok (.aload_n 1, 1) := dk_43 (dk_at dksJ15_nextNode_3 9 rfl rfl)
theorem dJ15_nextNode_79 : decode cJ15_nextNode 79 = .ok (.aload_n 0, 1) := dk_42 (dk_at dksJ15_nextNode_3 10 rfl rfl)
theorem dJ15_nextNode_80 : decode cJ15_nextNode 80 = .ok (.dup, 1) := dk_89 (dk_at dksJ15_nextNode_3 11 rfl rfl)
theorem dJ15_nextNode_81 : decode cJ15_nextNode 81 = .ok (.getfield 33, 3) := dk_180 0 33 (dk_at dksJ15_nextNode_3 12 rfl rfl)
theorem dJ15_nextNode_84 : decode cJ15_nextNode 84 = .ok (.dup_x1, 1) := dk_90 (dk_at dksJ15_nextNode_3 15 rfl rfl)
theorem dJ15_nextNode_85 : decode cJ15_nextNode 85 = .ok (.iconst 1, 1) := dk_4 (dk_at dksJ15_nextNode_3 16 rfl rfl)
theorem dJ15_nextNode_86 : decode cJ15_nextNode 86 = .ok (.iadd, 1) := dk_96 (dk_at dksJ15_nextNode_3 17 rfl rfl)
theorem dJ15_nextNode_87 : decode cJ15_nextNode 87 = .ok (.putfield 33, 3) := dk_181 0 33 (dk_at dksJ15_nextNode_3 18 rfl rfl)
theorem dJ15_nextNode_90 : decode cJ15_nextNode 90 = .ok (.aaload, 1) := dk_50 (dk_at dksJ15_nextNode_3 21 rfl rfl)
theorem dJ15_nextNode_91 : decode cJ15_nextNode 91 = .ok (.dup_x1, 1) := dk_90 (dk_at dksJ15_nextNode_3 22 rfl rfl)
theorem dJ15_nextNode_92 : decode cJ15_nextNode 92 = .ok (.putfield 26, 3) := dk_181 0 26 (dk_at dksJ15_nextNode_4 0 rfl rfl)
theorem dJ15_nextNode_95 : decode cJ15_nextNode 95 = .ok (.ifnull (-27), 3) := dk_198 255 229 (dk_at dksJ15_nextNode_4 3 rfl rfl)
theorem dJ15_nextNode_98 : decode cJ15_nextNode 98 = .ok (.aload_n 2, 1) := dk_44 (dk_at dksJ15_nextNode_4 6 rfl rfl)
theorem dJ15_nextNode_99 : decode cJ15_nextNode 99 = .ok (.areturn, 1) := dk_176 (dk_at dksJ15_nextNode_4 7 rfl rfl)
theorem q166 : (Jvm.Cond.initialized "java/util/HashMap$HashIterator") ∈ lw_all := lw_g (lw_at lw_m1 29 rfl) rfl
theorem q521 : (Jvm.Cond.fieldLink "java/util/HashMap$HashIterator" (22 : Nat) "java/util/HashMap" "table" "[Ljava/util/HashMap$Node;") ∈ lw_all := lw_g (lw_at lw_m2 144 rfl) rfl
theorem q523 : (Jvm.Cond.fieldLink "java/util/HashMap$HashIterator" (36 : Nat) "java/util/HashMap" "size" "I") ∈ lw_all := lw_g (lw_at lw_m2 146 rfl) rfl
theorem q525 : (Jvm.Cond.fieldLink "java/util/HashMap$HashIterator" (13 : Nat) "java/util/HashMap" "modCount" "I") ∈ lw_all := lw_g (lw_at lw_m2 148 rfl) rfl
theorem q879 : (Jvm.Cond.fieldLink "java/util/HashMap$HashIterator" (45 : Nat) "java/util/HashMap$Node" "next" "Ljava/util/HashMap$Node;") ∈ lw_all := lw_g (lw_at lw_m4 22 rfl) rfl
theorem q1065 : (Jvm.Cond.instanceMethod ({ cls := "java/util/HashMap$HashIterator", name := "<init>", desc := "(Ljava/util/HashMap;)V" } : Jvm.MethodName)) ∈ lw_all := lw_g (lw_at lw_m4 208 rfl) rfl
theorem q1066 : (Jvm.Cond.code ({ cls := "java/util/HashMap$HashIterator", name := "<init>", desc := "(Ljava/util/HashMap;)V" } : Jvm.MethodName) prog_50_method_1_code (3 : Nat) (Option.none : Option Jvm.ClassFile.FieldType)) ∈ lw_all := lw_g (lw_at lw_m4 209 rfl) rfl
theorem q1067 : (Jvm.Cond.methodLink "java/util/HashMap$HashIterator" (7 : Nat) ({ cls := "java/lang/Object", name := "<init>", desc := "()V" } : Jvm.MethodName)) ∈ lw_all := lw_g (lw_at lw_m4 210 rfl) rfl
theorem q1068 : (Jvm.Cond.fieldLink "java/util/HashMap$HashIterator" (26 : Nat) "java/util/HashMap$HashIterator" "next" "Ljava/util/HashMap$Node;") ∈ lw_all := lw_g (lw_at lw_m4 211 rfl) rfl
theorem q1069 : (Jvm.Cond.fieldLink "java/util/HashMap$HashIterator" (30 : Nat) "java/util/HashMap$HashIterator" "current" "Ljava/util/HashMap$Node;") ∈ lw_all := lw_g (lw_at lw_m4 212 rfl) rfl
theorem q1070 : (Jvm.Cond.fieldLink "java/util/HashMap$HashIterator" (19 : Nat) "java/util/HashMap$HashIterator" "expectedModCount" "I") ∈ lw_all := lw_g (lw_at lw_m4 213 rfl) rfl
theorem q1071 : (Jvm.Cond.fieldLink "java/util/HashMap$HashIterator" (33 : Nat) "java/util/HashMap$HashIterator" "index" "I") ∈ lw_all := lw_g (lw_at lw_m4 214 rfl) rfl
theorem q1072 : (Jvm.Cond.fieldLink "java/util/HashMap$HashIterator" (1 : Nat) "java/util/HashMap$HashIterator" "this$0" "Ljava/util/HashMap;") ∈ lw_all := lw_g (lw_at lw_m4 215 rfl) rfl
theorem q1074 : (Jvm.Cond.soleField "java/util/HashMap$HashIterator" "next") ∈ lw_all := lw_g (lw_at lw_m4 217 rfl) rfl
theorem q1076 : (Jvm.Cond.soleField "java/util/HashMap$HashIterator" "current") ∈ lw_all := lw_g (lw_at lw_m4 219 rfl) rfl
theorem q1078 : (Jvm.Cond.soleField "java/util/HashMap$HashIterator" "expectedModCount") ∈ lw_all := lw_g (lw_at lw_m4 221 rfl) rfl
theorem q1080 : (Jvm.Cond.soleField "java/util/HashMap$HashIterator" "index") ∈ lw_all := lw_g (lw_at lw_m4 223 rfl) rfl
theorem q1082 : (Jvm.Cond.soleField "java/util/HashMap$HashIterator" "this$0") ∈ lw_all := lw_g (lw_at lw_m4 225 rfl) rfl
theorem q1146 : (Jvm.Cond.instanceMethod ({ cls := "java/util/HashMap$HashIterator", name := "hasNext", desc := "()Z" } : Jvm.MethodName)) ∈ lw_all := lw_g (lw_at lw_m5 49 rfl) rfl
theorem q1147 : (Jvm.Cond.publicMethod ({ cls := "java/util/HashMap$HashIterator", name := "hasNext", desc := "()Z" } : Jvm.MethodName)) ∈ lw_tbl := lw_at lw_m5 50 rfl
theorem q1148 : (Jvm.Cond.code ({ cls := "java/util/HashMap$HashIterator", name := "hasNext", desc := "()Z" } : Jvm.MethodName) prog_50_method_2_code (1 : Nat) (Option.some Jvm.ClassFile.FieldType.boolean)) ∈ lw_all := lw_g (lw_at lw_m5 51 rfl) rfl
theorem q1166 : (Jvm.Cond.declares ({ cls := "java/util/HashMap$HashIterator", name := "nextNode", desc := "()Ljava/util/HashMap$Node;" } : Jvm.MethodName)) ∈ lw_tbl := lw_at lw_m5 69 rfl
theorem q1168 : (Jvm.Cond.instanceMethod ({ cls := "java/util/HashMap$HashIterator", name := "nextNode", desc := "()Ljava/util/HashMap$Node;" } : Jvm.MethodName)) ∈ lw_all := lw_g (lw_at lw_m5 71 rfl) rfl
theorem q1169 : (Jvm.Cond.code ({ cls := "java/util/HashMap$HashIterator", name := "nextNode", desc := "()Ljava/util/HashMap$Node;" } : Jvm.MethodName) prog_50_method_3_code (3 : Nat) (Option.some (Jvm.ClassFile.FieldType.object "java/util/HashMap$Node"))) ∈ lw_all := lw_g (lw_at lw_m5 72 rfl) rfl

/-! java/util/HashMap$KeyIterator -/
set_option maxRecDepth 100000
def RJ16 : String := "java/util/HashMap$KeyIterator"
def TJ16 : u_T := fun k => match k with
  | 0 => ("java/util/HashMap$HashIterator", "next", "Ljava/util/HashMap$Node;", false)
  | 1 => ("java/util/HashMap$HashIterator", "current", "Ljava/util/HashMap$Node;", false)
  | 2 => ("java/util/HashMap$HashIterator", "expectedModCount", "I", false)
  | 3 => ("java/util/HashMap$HashIterator", "index", "I", false)
  | _ => ("java/util/HashMap$HashIterator", "this$0", "Ljava/util/HashMap;", true)
def tyJ16 : Nat → FieldType := fun k => match k with
  | 0 => .object "java/util/HashMap$Node"
  | 1 => .object "java/util/HashMap$Node"
  | 2 => .int
  | 3 => .int
  | _ => .object "java/util/HashMap"
abbrev wsJ160 : List Cond := u_ws RJ16 TJ16 5
theorem nmJ16 : ∀ a, a < 5 → ∀ b, b < 5 → a ≠ b → (TJ16 a).2.1 ≠ (TJ16 b).2.1 := by decide +kernel
theorem tyJ16_ok : ∀ k, k < 5 → parseFieldDescriptor (TJ16 k).2.2.1 = some (tyJ16 k) := by decide +kernel
abbrev cJ16_init : ByteArray := prog_51_method_1_code
def yJ16_init : MethodName := ⟨RJ16, "<init>", "(Ljava/util/HashMap;)V"⟩
def dkwJ16_init_0 : List UInt8 := [42, 43, 183, 0, 1, 177]
abbrev dktJ16_init_0 : List UInt8 := dkwJ16_init_0 ++ []
theorem dksJ16_init_0 : cJ16_init.data.toList.drop 0 = dktJ16_init_0 := by decide +kernel
theorem dJ16_init_0 : decode cJ16_init 0 = .ok (.aload_n 0, 1) := dk_42 (dk_at dksJ16_init_0 0 rfl rfl)
theorem dJ16_init_1 : decode cJ16_init 1 = .ok (.aload_n 1, 1) := dk_43 (dk_at dksJ16_init_0 1 rfl rfl)
theorem dJ16_init_2 : decode cJ16_init 2 = .ok (.invokespecial 1, 3) := dk_183 0 1 (dk_at dksJ16_init_0 2 rfl rfl)
theorem dJ16_init_5 : decode cJ16_init 5 = .ok (.return_, 1) := dk_177 (dk_at dksJ16_init_0 5 rfl rfl)
abbrev cJ16_next : ByteArray := prog_51_method_2_code
def yJ16_next : MethodName := ⟨RJ16, "next", "()Ljava/lang/Object;"⟩
def dkwJ16_next_0 : List UInt8 := [42, 182, 0, 7, 180, 0, 13, 176]
abbrev dktJ16_next_0 : List UInt8 := dkwJ16_next_0 ++ []
theorem dksJ16_next_0 : cJ16_next.data.toList.drop 0 = dktJ16_next_0 := by decide +kernel
theorem dJ16_next_0 : decode cJ16_next 0 = .ok (.aload_n 0, 1) := dk_42 (dk_at dksJ16_next_0 0 rfl rfl)
theorem dJ16_next_1 : decode cJ16_next 1 = .ok (.invokevirtual 7, 3) := dk_182 0 7 (dk_at dksJ16_next_0 1 rfl rfl)
theorem dJ16_next_4 : decode cJ16_next 4 = .ok (.getfield 13, 3) := dk_180 0 13 (dk_at dksJ16_next_0 4 rfl rfl)
theorem dJ16_next_7 : decode cJ16_next 7 = .ok (.areturn, 1) := dk_176 (dk_at dksJ16_next_0 7 rfl rfl)
theorem q167 : (Jvm.Cond.initialized "java/util/HashMap$KeyIterator") ∈ lw_all := lw_g (lw_at lw_m1 30 rfl) rfl
theorem q773 : (Jvm.Cond.selects "java/util/HashMap$KeyIterator" ({ cls := "java/lang/Object", name := "getClass", desc := "()Ljava/lang/Class;" } : Jvm.MethodName) ({ cls := "java/lang/Object", name := "getClass", desc := "()Ljava/lang/Class;" } : Jvm.MethodName)) ∈ lw_all := lw_g (lw_at lw_m3 156 rfl) rfl
theorem q867 : (Jvm.Cond.fieldLink "java/util/HashMap$KeyIterator" (13 : Nat) "java/util/HashMap$Node" "key" "Ljava/lang/Object;") ∈ lw_all := lw_g (lw_at lw_m4 10 rfl) rfl
theorem q1060 : (Jvm.Cond.instantiable "java/util/HashMap$KeyIterator" (5 : Nat)) ∈ lw_all := lw_g (lw_at lw_m4 203 rfl) rfl
theorem q1062 : (Jvm.Cond.instanceMethod ({ cls := "java/util/HashMap$KeyIterator", name := "<init>", desc := "(Ljava/util/HashMap;)V" } : Jvm.MethodName)) ∈ lw_all := lw_g (lw_at lw_m4 205 rfl) rfl
theorem q1063 : (Jvm.Cond.code ({ cls := "java/util/HashMap$KeyIterator", name := "<init>", desc := "(Ljava/util/HashMap;)V" } : Jvm.MethodName) prog_51_method_1_code (2 : Nat) (Option.none : Option Jvm.ClassFile.FieldType)) ∈ lw_all := lw_g (lw_at lw_m4 206 rfl) rfl
theorem q1064 : (Jvm.Cond.methodLink "java/util/HashMap$KeyIterator" (1 : Nat) ({ cls := "java/util/HashMap$HashIterator", name := "<init>", desc := "(Ljava/util/HashMap;)V" } : Jvm.MethodName)) ∈ lw_all := lw_g (lw_at lw_m4 207 rfl) rfl
theorem q1073 : (Jvm.Cond.lays "java/util/HashMap$KeyIterator" "java/util/HashMap$HashIterator" "next" "Ljava/util/HashMap$Node;") ∈ lw_all := lw_g (lw_at lw_m4 216 rfl) rfl
theorem q1075 : (Jvm.Cond.lays "java/util/HashMap$KeyIterator" "java/util/HashMap$HashIterator" "current" "Ljava/util/HashMap$Node;") ∈ lw_all := lw_g (lw_at lw_m4 218 rfl) rfl
theorem q1077 : (Jvm.Cond.lays "java/util/HashMap$KeyIterator" "java/util/HashMap$HashIterator" "expectedModCount" "I") ∈ lw_all := lw_g (lw_at lw_m4 220 rfl) rfl
theorem q1079 : (Jvm.Cond.lays "java/util/HashMap$KeyIterator" "java/util/HashMap$HashIterator" "index" "I") ∈ lw_all := lw_g (lw_at lw_m4 222 rfl) rfl
theorem q1081 : (Jvm.Cond.laysFinal "java/util/HashMap$KeyIterator" "java/util/HashMap$HashIterator" "this$0" "Ljava/util/HashMap;") ∈ lw_all := lw_g (lw_at lw_m4 224 rfl) rfl
theorem q1083 : (Jvm.Cond.superclass "java/util/HashMap$KeyIterator" "java/util/HashMap$HashIterator") ∈ lw_all := lw_g (lw_at lw_m4 226 rfl) rfl
theorem q1143 : (Jvm.Cond.castable "java/util/HashMap$KeyIterator" "java/util/Iterator") ∈ lw_tbl := lw_at lw_m5 46 rfl
theorem q1144 : (Jvm.Cond.selects "java/util/HashMap$KeyIterator" ({ cls := "java/util/Iterator", name := "hasNext", desc := "()Z" } : Jvm.MethodName) ({ cls := "java/util/HashMap$HashIterator", name := "hasNext", desc := "()Z" } : Jvm.MethodName)) ∈ lw_all := lw_g (lw_at lw_m5 47 rfl) rfl
theorem q1145 : (Jvm.Cond.unhidden "java/util/HashMap$KeyIterator" "hasNext" "()Z") ∈ lw_tbl := lw_at lw_m5 48 rfl
theorem q1159 : (Jvm.Cond.selects "java/util/HashMap$KeyIterator" ({ cls := "java/util/Iterator", name := "next", desc := "()Ljava/lang/Object;" } : Jvm.MethodName) ({ cls := "java/util/HashMap$KeyIterator", name := "next", desc := "()Ljava/lang/Object;" } : Jvm.MethodName)) ∈ lw_all := lw_g (lw_at lw_m5 62 rfl) rfl
theorem q1160 : (Jvm.Cond.unhidden "java/util/HashMap$KeyIterator" "next" "()Ljava/lang/Object;") ∈ lw_tbl := lw_at lw_m5 63 rfl
theorem q1161 : (Jvm.Cond.instanceMethod ({ cls := "java/util/HashMap$KeyIterator", name := "next", desc := "()Ljava/lang/Object;" } : Jvm.MethodName)) ∈ lw_all := lw_g (lw_at lw_m5 64 rfl) rfl
theorem q1162 : (Jvm.Cond.publicMethod ({ cls := "java/util/HashMap$KeyIterator", name := "next", desc := "()Ljava/lang/Object;" } : Jvm.MethodName)) ∈ lw_tbl := lw_at lw_m5 65 rfl
theorem q1163 : (Jvm.Cond.code ({ cls := "java/util/HashMap$KeyIterator", name := "next", desc := "()Ljava/lang/Object;" } : Jvm.MethodName) prog_51_method_2_code (1 : Nat) (Option.some (Jvm.ClassFile.FieldType.object "java/lang/Object"))) ∈ lw_all := lw_g (lw_at lw_m5 66 rfl) rfl
theorem q1164 : (Jvm.Cond.methodLink "java/util/HashMap$KeyIterator" (7 : Nat) ({ cls := "java/util/HashMap$KeyIterator", name := "nextNode", desc := "()Ljava/util/HashMap$Node;" } : Jvm.MethodName)) ∈ lw_all := lw_g (lw_at lw_m5 67 rfl) rfl
theorem q1165 : (Jvm.Cond.sameMethod "java/util/HashMap$KeyIterator" "java/util/HashMap$HashIterator" "nextNode" "()Ljava/util/HashMap$Node;") ∈ lw_all := lw_g (lw_at lw_m5 68 rfl) rfl
theorem q1167 : (Jvm.Cond.selects "java/util/HashMap$KeyIterator" ({ cls := "java/util/HashMap$KeyIterator", name := "nextNode", desc := "()Ljava/util/HashMap$Node;" } : Jvm.MethodName) ({ cls := "java/util/HashMap$HashIterator", name := "nextNode", desc := "()Ljava/util/HashMap$Node;" } : Jvm.MethodName)) ∈ lw_all := lw_g (lw_at lw_m5 70 rfl) rfl
theorem q2769 : (Jvm.Cond.castable "java/util/HashMap$KeyIterator" "java/lang/Object") ∈ lw_tbl := lw_at lw_m11 232 rfl
theorem in_J16 : ∀ w ∈ wsJ160, w ∈ lw_all := lw_in wsJ160 [1073, 1075, 1077, 1079, 1081] (by decide +kernel) (by decide +kernel)

/-! java/util/HashMap$KeySet -/
set_option maxRecDepth 100000
def RJ17 : String := "java/util/HashMap$KeySet"
def TJ17 : u_T := fun k => match k with
  | _ => ("java/util/HashMap$KeySet", "this$0", "Ljava/util/HashMap;", true)
def tyJ17 : Nat → FieldType := fun k => match k with
  | _ => .object "java/util/HashMap"
abbrev wsJ170 : List Cond := u_ws RJ17 TJ17 1
theorem nmJ17 : ∀ a, a < 1 → ∀ b, b < 1 → a ≠ b → (TJ17 a).2.1 ≠ (TJ17 b).2.1 := by decide +kernel
theorem tyJ17_ok : ∀ k, k < 1 → parseFieldDescriptor (TJ17 k).2.2.1 = some (tyJ17 k) := by decide +kernel
abbrev cJ17_iterator : ByteArray := prog_52_method_4_code
def yJ17_iterator : MethodName := ⟨RJ17, "iterator", "()Ljava/util/Iterator;"⟩
def dkwJ17_iterator_0 : List UInt8 := [187, 0, 22, 89, 42, 180, 0, 1, 183, 0, 24, 176]
abbrev dktJ17_iterator_0 : List UInt8 := dkwJ17_iterator_0 ++ []
theorem dksJ17_iterator_0 : cJ17_iterator.data.toList.drop 0 = dktJ17_iterator_0 := by decide +kernel
theorem dJ17_iterator_0 : decode cJ17_iterator 0 = .ok (.new 22, 3) := dk_187 0 22 (dk_at dksJ17_iterator_0 0 rfl rfl)
theorem dJ17_iterator_3 : decode cJ17_iterator 3 = .ok (.dup, 1) := dk_89 (dk_at dksJ17_iterator_0 3 rfl rfl)
theorem dJ17_iterator_4 : decode cJ17_iterator 4 = .ok (.aload_n 0, 1) := dk_42 (dk_at dksJ17_iterator_0 4 rfl rfl)
theorem dJ17_iterator_5 : decode cJ17_iterator 5 = .ok (.getfield 1, 3) := dk_180 0 1 (dk_at dksJ17_iterator_0 5 rfl rfl)
theorem dJ17_iterator_8 : decode cJ17_iterator 8 = .ok (.invokespecial 24, 3) := dk_183 0 24 (dk_at dksJ17_iterator_0 8 rfl rfl)
theorem dJ17_iterator_11 : decode cJ17_iterator 11 = .ok (.areturn, 1) := dk_176 (dk_at dksJ17_iterator_0 11 rfl rfl)
abbrev cJ17_init : ByteArray := prog_52_method_1_code
def yJ17_init : MethodName := ⟨RJ17, "<init>", "(Ljava/util/HashMap;)V"⟩
def dkwJ17_init_0 : List UInt8 := [42, 43, 181, 0, 1, 42, 183, 0, 7, 177]
abbrev dktJ17_init_0 : List UInt8 := dkwJ17_init_0 ++ []
theorem dksJ17_init_0 : cJ17_init.data.toList.drop 0 = dktJ17_init_0 := by decide +kernel
theorem dJ17_init_0 : decode cJ17_init 0 = .ok (.aload_n 0, 1) := dk_42 (dk_at dksJ17_init_0 0 rfl rfl)
theorem dJ17_init_1 : decode cJ17_init 1 = .ok (.aload_n 1, 1) := dk_43 (dk_at dksJ17_init_0 1 rfl rfl)
theorem dJ17_init_2 : decode cJ17_init 2 = .ok (.putfield 1, 3) := dk_181 0 1 (dk_at dksJ17_init_0 2 rfl rfl)
theorem dJ17_init_5 : decode cJ17_init 5 = .ok (.aload_n 0, 1) := dk_42 (dk_at dksJ17_init_0 5 rfl rfl)
theorem dJ17_init_6 : decode cJ17_init 6 = .ok (.invokespecial 7, 3) := dk_183 0 7 (dk_at dksJ17_init_0 6 rfl rfl)
theorem dJ17_init_9 : decode cJ17_init 9 = .ok (.return_, 1) := dk_177 (dk_at dksJ17_init_0 9 rfl rfl)
theorem q168 : (Jvm.Cond.initialized "java/util/HashMap$KeySet") ∈ lw_all := lw_g (lw_at lw_m1 31 rfl) rfl
theorem q774 : (Jvm.Cond.selects "java/util/HashMap$KeySet" ({ cls := "java/lang/Object", name := "getClass", desc := "()Ljava/lang/Class;" } : Jvm.MethodName) ({ cls := "java/lang/Object", name := "getClass", desc := "()Ljava/lang/Class;" } : Jvm.MethodName)) ∈ lw_all := lw_g (lw_at lw_m3 157 rfl) rfl
theorem q1053 : (Jvm.Cond.castable "java/util/HashMap$KeySet" "java/util/Set") ∈ lw_tbl := lw_at lw_m4 196 rfl
theorem q1054 : (Jvm.Cond.selects "java/util/HashMap$KeySet" ({ cls := "java/util/Set", name := "iterator", desc := "()Ljava/util/Iterator;" } : Jvm.MethodName) ({ cls := "java/util/HashMap$KeySet", name := "iterator", desc := "()Ljava/util/Iterator;" } : Jvm.MethodName)) ∈ lw_all := lw_g (lw_at lw_m4 197 rfl) rfl
theorem q1055 : (Jvm.Cond.unhidden "java/util/HashMap$KeySet" "iterator" "()Ljava/util/Iterator;") ∈ lw_tbl := lw_at lw_m4 198 rfl
theorem q1056 : (Jvm.Cond.instanceMethod ({ cls := "java/util/HashMap$KeySet", name := "iterator", desc := "()Ljava/util/Iterator;" } : Jvm.MethodName)) ∈ lw_all := lw_g (lw_at lw_m4 199 rfl) rfl
theorem q1057 : (Jvm.Cond.publicMethod ({ cls := "java/util/HashMap$KeySet", name := "iterator", desc := "()Ljava/util/Iterator;" } : Jvm.MethodName)) ∈ lw_tbl := lw_at lw_m4 200 rfl
theorem q1058 : (Jvm.Cond.code ({ cls := "java/util/HashMap$KeySet", name := "iterator", desc := "()Ljava/util/Iterator;" } : Jvm.MethodName) prog_52_method_4_code (1 : Nat) (Option.some (Jvm.ClassFile.FieldType.object "java/util/Iterator"))) ∈ lw_all := lw_g (lw_at lw_m4 201 rfl) rfl
theorem q1059 : (Jvm.Cond.classLink "java/util/HashMap$KeySet" (22 : Nat) "java/util/HashMap$KeyIterator") ∈ lw_all := lw_g (lw_at lw_m4 202 rfl) rfl
theorem q1061 : (Jvm.Cond.methodLink "java/util/HashMap$KeySet" (24 : Nat) ({ cls := "java/util/HashMap$KeyIterator", name := "<init>", desc := "(Ljava/util/HashMap;)V" } : Jvm.MethodName)) ∈ lw_all := lw_g (lw_at lw_m4 204 rfl) rfl
theorem q1097 : (Jvm.Cond.instantiable "java/util/HashMap$KeySet" (1 : Nat)) ∈ lw_all := lw_g (lw_at lw_m5 0 rfl) rfl
theorem q1099 : (Jvm.Cond.instanceMethod ({ cls := "java/util/HashMap$KeySet", name := "<init>", desc := "(Ljava/util/HashMap;)V" } : Jvm.MethodName)) ∈ lw_all := lw_g (lw_at lw_m5 2 rfl) rfl
theorem q1100 : (Jvm.Cond.code ({ cls := "java/util/HashMap$KeySet", name := "<init>", desc := "(Ljava/util/HashMap;)V" } : Jvm.MethodName) prog_52_method_1_code (2 : Nat) (Option.none : Option Jvm.ClassFile.FieldType)) ∈ lw_all := lw_g (lw_at lw_m5 3 rfl) rfl
theorem q1101 : (Jvm.Cond.methodLink "java/util/HashMap$KeySet" (7 : Nat) ({ cls := "java/util/AbstractSet", name := "<init>", desc := "()V" } : Jvm.MethodName)) ∈ lw_all := lw_g (lw_at lw_m5 4 rfl) rfl
theorem q1102 : (Jvm.Cond.fieldLink "java/util/HashMap$KeySet" (1 : Nat) "java/util/HashMap$KeySet" "this$0" "Ljava/util/HashMap;") ∈ lw_all := lw_g (lw_at lw_m5 5 rfl) rfl
theorem q1103 : (Jvm.Cond.laysFinal "java/util/HashMap$KeySet" "java/util/HashMap$KeySet" "this$0" "Ljava/util/HashMap;") ∈ lw_all := lw_g (lw_at lw_m5 6 rfl) rfl
theorem q1104 : (Jvm.Cond.soleField "java/util/HashMap$KeySet" "this$0") ∈ lw_all := lw_g (lw_at lw_m5 7 rfl) rfl
theorem q1105 : (Jvm.Cond.superclass "java/util/HashMap$KeySet" "java/util/AbstractSet") ∈ lw_all := lw_g (lw_at lw_m5 8 rfl) rfl
theorem q2768 : (Jvm.Cond.castable "java/util/HashMap$KeySet" "java/lang/Object") ∈ lw_tbl := lw_at lw_m11 231 rfl
theorem in_J17 : ∀ w ∈ wsJ170, w ∈ lw_all := lw_in wsJ170 [1103] (by decide +kernel) (by decide +kernel)

/-! java/util/LinkedHashMap$LinkedHashIterator -/
set_option maxRecDepth 100000
def RJ18 : String := "java/util/LinkedHashMap$LinkedHashIterator"
abbrev cJ18_init : ByteArray := prog_59_method_1_code
def yJ18_init : MethodName := ⟨RJ18, "<init>", "(Ljava/util/LinkedHashMap;Z)V"⟩
def dkwJ18_init_1 : List UInt8 := [167, 0, 7, 43, 180, 0, 23, 181, 0, 26, 42, 43, 180, 0, 29, 181, 0, 33, 42, 1, 181, 0, 36, 177]
abbrev dktJ18_init_1 : List UInt8 := dkwJ18_init_1 ++ []
def dkwJ18_init_0 : List UInt8 := [42, 43, 181, 0, 1, 42, 183, 0, 7, 42, 28, 181, 0, 13, 42, 28, 153, 0, 10, 43, 180, 0, 17]
abbrev dktJ18_init_0 : List UInt8 := dkwJ18_init_0 ++ dktJ18_init_1
theorem dksJ18_init_0 : cJ18_init.data.toList.drop 0 = dktJ18_init_0 := by decide +kernel
theorem dksJ18_init_1 : cJ18_init.data.toList.drop 23 = dktJ18_init_1 := dk_seg dksJ18_init_0 23 rfl rfl
theorem dJ18_init_0 : decode cJ18_init 0 = .ok (.aload_n 0, 1) := dk_42 (dk_at dksJ18_init_0 0 rfl rfl)
theorem dJ18_init_1 : decode cJ18_init 1 = .ok (.aload_n 1, 1) := dk_43 (dk_at dksJ18_init_0 1 rfl rfl)
theorem dJ18_init_2 : decode cJ18_init 2 = .ok (.putfield 1, 3) := dk_181 0 1 (dk_at dksJ18_init_0 2 rfl rfl)
theorem dJ18_init_5 : decode cJ18_init 5 = .ok (.aload_n 0, 1) := dk_42 (dk_at dksJ18_init_0 5 rfl rfl)
theorem dJ18_init_6 : decode cJ18_init 6 = .ok (.invokespecial 7, 3) := dk_183 0 7 (dk_at dksJ18_init_0 6 rfl rfl)
theorem dJ18_init_9 : decode cJ18_init 9 = .ok (.aload_n 0, 1) := dk_42 (dk_at dksJ18_init_0 9 rfl rfl)
theorem dJ18_init_10 : decode cJ18_init 10 = .ok (.iload_n 2, 1) := dk_28 (dk_at dksJ18_init_0 10 rfl rfl)
theorem dJ18_init_11 : decode cJ18_init 11 = .ok (.putfield 13, 3) := dk_181 0 13 (dk_at dksJ18_init_0 11 rfl rfl)
theorem dJ18_init_14 : decode cJ18_init 14 = .ok (.aload_n 0, 1) := dk_42 (dk_at dksJ18_init_0 14 rfl rfl)
theorem dJ18_init_15 : decode cJ18_init 15 = .ok (.iload_n 2, 1) := dk_28 (dk_at dksJ18_init_0 15 rfl rfl)
theorem dJ18_init_16 : decode cJ18_init 16 = .ok (.ifCond .eq 10, 3) := dk_153 0 10 (dk_at dksJ18_init_0 16 rfl rfl)
theorem dJ18_init_19 : decode cJ18_init 19 = .ok (.aload_n 1, 1) := dk_43 (dk_at dksJ18_init_0 19 rfl rfl)
theorem dJ18_init_20 : decode cJ18_init 20 = .ok (.getfield 17, 3) := dk_180 0 17 (dk_at dksJ18_init_0 20 rfl rfl)
theorem dJ18_init_23 : decode cJ18_init 23 = .ok (.goto 7, 3) := dk_167 0 7 (dk_at dksJ18_init_1 0 rfl rfl)
theorem dJ18_init_26 : decode cJ18_init 26 = .ok (.aload_n 1, 1) := dk_43 (dk_at dksJ18_init_1 3 rfl rfl)
theorem dJ18_init_27 : decode cJ18_init 27 = .ok (.getfield 23, 3) := dk_180 0 23 (dk_at dksJ18_init_1 4 rfl rfl)
theorem dJ18_init_30 : decode cJ18_init 30 = .ok (.putfield 26, 3) := dk_181 0 26 (dk_at dksJ18_init_1 7 rfl rfl)
theorem dJ18_init_33 : decode cJ18_init 33 = .ok (.aload_n 0, 1) := dk_42 (dk_at dksJ18_init_1 10 rfl rfl)
theorem dJ18_init_34 : decode cJ18_init 34 = .ok (.aload_n 1, 1) := dk_43 (dk_at dksJ18_init_1 11 rfl rfl)
theorem dJ18_init_35 : decode cJ18_init 35 = .ok (.getfield 29, 3) := dk_180 0 29 (dk_at dksJ18_init_1 12 rfl rfl)
theorem dJ18_init_38 : decode cJ18_init 38 = .ok (.putfield 33, 3) := dk_181 0 33 (dk_at dksJ18_init_1 15 rfl rfl)
theorem dJ18_init_41 : decode cJ18_init 41 = .ok (.aload_n 0, 1) := dk_42 (dk_at dksJ18_init_1 18 rfl rfl)
theorem dJ18_init_42 : decode cJ18_init 42 = .ok (.aconst_null, 1) := dk_1 (dk_at dksJ18_init_1 19 rfl rfl)
theorem dJ18_init_43 : decode cJ18_init 43 = .ok (.putfield 36, 3) := dk_181 0 36 (dk_at dksJ18_init_1 20 rfl rfl)
theorem dJ18_init_46 : decode cJ18_init 46 = .ok (.return_, 1) := dk_177 (dk_at dksJ18_init_1 23 rfl rfl)
abbrev cJ18_hasNext : ByteArray := prog_59_method_2_code
def yJ18_hasNext : MethodName := ⟨RJ18, "hasNext", "()Z"⟩
def dkwJ18_hasNext_0 : List UInt8 := [42, 180, 0, 26, 198, 0, 7, 4, 167, 0, 4, 3, 172]
abbrev dktJ18_hasNext_0 : List UInt8 := dkwJ18_hasNext_0 ++ []
theorem dksJ18_hasNext_0 : cJ18_hasNext.data.toList.drop 0 = dktJ18_hasNext_0 := by decide +kernel
theorem dJ18_hasNext_0 : decode cJ18_hasNext 0 = .ok (.aload_n 0, 1) := dk_42 (dk_at dksJ18_hasNext_0 0 rfl rfl)
theorem dJ18_hasNext_1 : decode cJ18_hasNext 1 = .ok (.getfield 26, 3) := dk_180 0 26 (dk_at dksJ18_hasNext_0 1 rfl rfl)
theorem dJ18_hasNext_4 : decode cJ18_hasNext 4 = .ok (.ifnull 7, 3) := dk_198 0 7 (dk_at dksJ18_hasNext_0 4 rfl rfl)
theorem dJ18_hasNext_7 : decode cJ18_hasNext 7 = .ok (.iconst 1, 1) := dk_4 (dk_at dksJ18_hasNext_0 7 rfl rfl)
theorem dJ18_hasNext_8 : decode cJ18_hasNext 8 = .ok (.goto 4, 3) := dk_167 0 4 (dk_at dksJ18_hasNext_0 8 rfl rfl)
theorem dJ18_hasNext_11 : decode cJ18_hasNext 11 = .ok (.iconst 0, 1) := dk_3 (dk_at dksJ18_hasNext_0 11 rfl rfl)
theorem dJ18_hasNext_12 : decode cJ18_hasNext 12 = .ok (.ireturn, 1) := dk_172 (dk_at dksJ18_hasNext_0 12 rfl rfl)
abbrev cJ18_nextNode : ByteArray := prog_59_method_3_code
def yJ18_nextNode : MethodName := ⟨RJ18, "nextNode", "()Ljava/util/LinkedHashMap$Entry;"⟩
def dkwJ18_nextNode_2 : List UInt8 := [180, 0, 13, 153, 0, 10, 43, 180, 0, 45, 167, 0, 7, 43, 180, 0, 50, 181, 0, 26, 43, 176]
abbrev dktJ18_nextNode_2 : List UInt8 := dkwJ18_nextNode_2 ++ []
def dkwJ18_nextNode_1 : List UInt8 := [183, 0, 41, 191, 43, 199, 0, 11, 187, 0, 42, 89, 183, 0, 44, 191, 42, 43, 181, 0, 36, 42, 42]
abbrev dktJ18_nextNode_1 : List UInt8 := dkwJ18_nextNode_1 ++ dktJ18_nextNode_2
def dkwJ18_nextNode_0 : List UInt8 := [42, 180, 0, 26, 76, 42, 180, 0, 1, 180, 0, 29, 42, 180, 0, 33, 159, 0, 11, 187, 0, 39, 89]
abbrev dktJ18_nextNode_0 : List UInt8 := dkwJ18_nextNode_0 ++ dktJ18_nextNode_1
theorem dksJ18_nextNode_0 : cJ18_nextNode.data.toList.drop 0 = dktJ18_nextNode_0 := by decide +kernel
theorem dksJ18_nextNode_1 : cJ18_nextNode.data.toList.drop 23 = dktJ18_nextNode_1 := dk_seg dksJ18_nextNode_0 23 rfl rfl
theorem dksJ18_nextNode_2 : cJ18_nextNode.data.toList.drop 46 = dktJ18_nextNode_2 := dk_seg dksJ18_nextNode_1 23 rfl rfl
theorem dJ18_nextNode_0 : decode cJ18_nextNode 0 = .ok (.aload_n 0, 1) := dk_42 (dk_at dksJ18_nextNode_0 0 rfl rfl)
theorem dJ18_nextNode_1 : decode cJ18_nextNode 1 = .ok (.getfield 26, 3) := dk_180 0 26 (dk_at dksJ18_nextNode_0 1 rfl rfl)
theorem dJ18_nextNode_4 : decode cJ18_nextNode 4 = .ok (.astore_n 1, 1) := dk_76 (dk_at dksJ18_nextNode_0 4 rfl rfl)
theorem dJ18_nextNode_5 : decode cJ18_nextNode 5 = .ok (.aload_n 0, 1) := dk_42 (dk_at dksJ18_nextNode_0 5 rfl rfl)
theorem dJ18_nextNode_6 : decode cJ18_nextNode 6 = .ok (.getfield 1, 3) := dk_180 0 1 (dk_at dksJ18_nextNode_0 6 rfl rfl)
theorem dJ18_nextNode_9 : decode cJ18_nextNode 9 = .ok (.getfield 29, 3) := dk_180 0 29 (dk_at dksJ18_nextNode_0 9 rfl rfl)
theorem dJ18_nextNode_12 : decode cJ18_nextNode 12 = .ok (.aload_n 0, 1) := dk_42 (dk_at dksJ18_nextNode_0 12 rfl rfl)
theorem dJ18_nextNode_13 : decode cJ18_nextNode 13 = .ok (.getfield 33, 3) := dk_180 0 33 (dk_at dksJ18_nextNode_0 13 rfl rfl)
theorem dJ18_nextNode_16 : decode cJ18_nextNode 16 = .ok (.if_icmp .eq 11, 3) := dk_159 0 11 (dk_at dksJ18_nextNode_0 16 rfl rfl)
theorem dJ18_nextNode_19 : decode cJ18_nextNode 19 = .ok (.new 39, 3) := dk_187 0 39 (dk_at dksJ18_nextNode_0 19 rfl rfl)
theorem dJ18_nextNode_22 : decode cJ18_nextNode 22 = .ok (.dup, 1) := dk_89 (dk_at dksJ18_nextNode_0 22 rfl rfl)
theorem dJ18_nextNode_23 : decode cJ18_nextNode 23 = .ok (.invokespecial 41, 3) := dk_183 0 41 (dk_at dksJ18_nextNode_1 0 rfl rfl)
theorem dJ18_nextNode_26 : decode cJ18_nextNode 26 = .ok (.athrow, 1) := dk_191 (dk_at dksJ18_nextNode_1 3 rfl rfl)
theorem dJ18_nextNode_27 : decode cJ18_nextNode 27 = .ok (.aload_n 1, 1) := dk_43 (dk_at dksJ18_nextNode_1 4 rfl rfl)
theorem dJ18_nextNode_28 : decode cJ18_nextNode 28 = .ok (.ifnonnull 11, 3) := dk_199 0 11 (dk_at dksJ18_nextNode_1 5 rfl rfl)
theorem dJ18_nextNode_31 : decode cJ18_nextNode 31 = .ok (.new 42, 3) := dk_187 0 42 (dk_at dksJ18_nextNode_1 8 rfl rfl)
theorem dJ18_nextNode_34 : decode cJ18_nextNode 34 = .ok (.dup, 1) := dk_89 (dk_at dksJ18_nextNode_1 11 rfl rfl)
theorem dJ18_nextNode_35 : decode cJ18_nextNode 35 = .ok (.invokespecial 44, 3) := dk_183 0 44 (dk_at dksJ18_nextNode_1 12 rfl rfl)
theorem dJ18_nextNode_38 : decode cJ18_nextNode 38 = .ok (.athrow, 1) := dk_191 (dk_at dksJ18_nextNode_1 15 rfl rfl)
theorem dJ18_nextNode_39 : decode cJ18_nextNode 39 = .ok (.aload_n 0, 1) := dk_42 (dk_at dksJ18_nextNode_1 16 rfl rfl)
theorem dJ18_nextNode_40 : decode cJ18_nextNode 40 = .ok (.aload_n 1, 1) := dk_43 (dk_at dksJ18_nextNode_1 17 rfl rfl)
theorem dJ18_nextNode_41 : decode cJ18_nextNode 41 = .ok (.putfield 36, 3) := dk_181 0 36 (dk_at dksJ18_nextNode_1 18 rfl rfl)
theorem dJ18_nextNode_44 : decode cJ18_nextNode 44 = .ok (.aload_n 0, 1) := dk_42 (dk_at dksJ18_nextNode_1 21 rfl rfl)
theorem dJ18_nextNode_45 : decode cJ18_nextNode 45 = .ok (.aload_n 0, 1) := dk_42 (dk_at dksJ18_nextNode_1 22 rfl rfl)
theorem dJ18_nextNode_46 : decode cJ18_nextNode 46 = .ok (.getfield 13, 3) := dk_180 0 13 (dk_at dksJ18_nextNode_2 0 rfl rfl)
theorem dJ18_nextNode_49 : decode cJ18_nextNode 49 = .ok (.ifCond .eq 10, 3) := dk_153 0 10 (dk_at dksJ18_nextNode_2 3 rfl rfl)
theorem dJ18_nextNode_52 : decode cJ18_nextNode 52 = .ok (.aload_n 1, 1) := dk_43 (dk_at dksJ18_nextNode_2 6 rfl rfl)
theorem dJ18_nextNode_53 : decode cJ18_nextNode 53 = .ok (.getfield 45, 3) := dk_180 0 45 (dk_at dksJ18_nextNode_2 7 rfl rfl)
theorem dJ18_nextNode_56 : decode cJ18_nextNode 56 = .ok (.goto 7, 3) := dk_167 0 7 (dk_at dksJ18_nextNode_2 10 rfl rfl)
theorem dJ18_nextNode_59 : decode cJ18_nextNode 59 = .ok (.aload_n 1, 1) := dk_43 (dk_at dksJ18_nextNode_2 13 rfl rfl)
theorem dJ18_nextNode_60 : decode cJ18_nextNode 60 = .ok (.getfield 50, 3) := dk_180 0 50 (dk_at dksJ18_nextNode_2 14 rfl rfl)
theorem dJ18_nextNode_63 : decode cJ18_nextNode 63 = .ok (.putfield 26, 3) := dk_181 0 26 (dk_at dksJ18_nextNode_2 17 rfl rfl)
theorem dJ18_nextNode_66 : decode cJ18_nextNode 66 = .ok (.aload_n 1, 1) := dk_43 (dk_at dksJ18_nextNode_2 20 rfl rfl)
theorem dJ18_nextNode_67 : decode cJ18_nextNode 67 = .ok (.areturn, 1) := dk_176 (dk_at dksJ18_nextNode_2 21 rfl rfl)
theorem q169 : (Jvm.Cond.initialized "java/util/LinkedHashMap$LinkedHashIterator") ∈ lw_all := lw_g (lw_at lw_m1 32 rfl) rfl
theorem q516 : (Jvm.Cond.fieldLink "java/util/LinkedHashMap$LinkedHashIterator" (23 : Nat) "java/util/LinkedHashMap" "head" "Ljava/util/LinkedHashMap$Entry;") ∈ lw_all := lw_g (lw_at lw_m2 139 rfl) rfl
theorem q517 : (Jvm.Cond.fieldLink "java/util/LinkedHashMap$LinkedHashIterator" (17 : Nat) "java/util/LinkedHashMap" "tail" "Ljava/util/LinkedHashMap$Entry;") ∈ lw_all := lw_g (lw_at lw_m2 140 rfl) rfl
theorem q526 : (Jvm.Cond.fieldLink "java/util/LinkedHashMap$LinkedHashIterator" (29 : Nat) "java/util/LinkedHashMap" "modCount" "I") ∈ lw_all := lw_g (lw_at lw_m2 149 rfl) rfl
theorem q857 : (Jvm.Cond.fieldLink "java/util/LinkedHashMap$LinkedHashIterator" (45 : Nat) "java/util/LinkedHashMap$Entry" "before" "Ljava/util/LinkedHashMap$Entry;") ∈ lw_all := lw_g (lw_at lw_m4 0 rfl) rfl
theorem q859 : (Jvm.Cond.fieldLink "java/util/LinkedHashMap$LinkedHashIterator" (50 : Nat) "java/util/LinkedHashMap$Entry" "after" "Ljava/util/LinkedHashMap$Entry;") ∈ lw_all := lw_g (lw_at lw_m4 2 rfl) rfl
theorem q1120 : (Jvm.Cond.instanceMethod ({ cls := "java/util/LinkedHashMap$LinkedHashIterator", name := "<init>", desc := "(Ljava/util/LinkedHashMap;Z)V" } : Jvm.MethodName)) ∈ lw_all := lw_g (lw_at lw_m5 23 rfl) rfl
theorem q1121 : (Jvm.Cond.code ({ cls := "java/util/LinkedHashMap$LinkedHashIterator", name := "<init>", desc := "(Ljava/util/LinkedHashMap;Z)V" } : Jvm.MethodName) prog_59_method_1_code (3 : Nat) (Option.none : Option Jvm.ClassFile.FieldType)) ∈ lw_all := lw_g (lw_at lw_m5 24 rfl) rfl
theorem q1122 : (Jvm.Cond.methodLink "java/util/LinkedHashMap$LinkedHashIterator" (7 : Nat) ({ cls := "java/lang/Object", name := "<init>", desc := "()V" } : Jvm.MethodName)) ∈ lw_all := lw_g (lw_at lw_m5 25 rfl) rfl
theorem q1123 : (Jvm.Cond.fieldLink "java/util/LinkedHashMap$LinkedHashIterator" (26 : Nat) "java/util/LinkedHashMap$LinkedHashIterator" "next" "Ljava/util/LinkedHashMap$Entry;") ∈ lw_all := lw_g (lw_at lw_m5 26 rfl) rfl
theorem q1124 : (Jvm.Cond.fieldLink "java/util/LinkedHashMap$LinkedHashIterator" (36 : Nat) "java/util/LinkedHashMap$LinkedHashIterator" "current" "Ljava/util/LinkedHashMap$Entry;") ∈ lw_all := lw_g (lw_at lw_m5 27 rfl) rfl
theorem q1125 : (Jvm.Cond.fieldLink "java/util/LinkedHashMap$LinkedHashIterator" (33 : Nat) "java/util/LinkedHashMap$LinkedHashIterator" "expectedModCount" "I") ∈ lw_all := lw_g (lw_at lw_m5 28 rfl) rfl
theorem q1126 : (Jvm.Cond.fieldLink "java/util/LinkedHashMap$LinkedHashIterator" (13 : Nat) "java/util/LinkedHashMap$LinkedHashIterator" "reversed" "Z") ∈ lw_all := lw_g (lw_at lw_m5 29 rfl) rfl
theorem q1127 : (Jvm.Cond.fieldLink "java/util/LinkedHashMap$LinkedHashIterator" (1 : Nat) "java/util/LinkedHashMap$LinkedHashIterator" "this$0" "Ljava/util/LinkedHashMap;") ∈ lw_all := lw_g (lw_at lw_m5 30 rfl) rfl
theorem q1129 : (Jvm.Cond.soleField "java/util/LinkedHashMap$LinkedHashIterator" "next") ∈ lw_all := lw_g (lw_at lw_m5 32 rfl) rfl
theorem q1131 : (Jvm.Cond.soleField "java/util/LinkedHashMap$LinkedHashIterator" "current") ∈ lw_all := lw_g (lw_at lw_m5 34 rfl) rfl
theorem q1133 : (Jvm.Cond.soleField "java/util/LinkedHashMap$LinkedHashIterator" "expectedModCount") ∈ lw_all := lw_g (lw_at lw_m5 36 rfl) rfl
theorem q1135 : (Jvm.Cond.soleField "java/util/LinkedHashMap$LinkedHashIterator" "reversed") ∈ lw_all := lw_g (lw_at lw_m5 38 rfl) rfl
theorem q1137 : (Jvm.Cond.soleField "java/util/LinkedHashMap$LinkedHashIterator" "this$0") ∈ lw_all := lw_g (lw_at lw_m5 40 rfl) rfl
theorem q1152 : (Jvm.Cond.instanceMethod ({ cls := "java/util/LinkedHashMap$LinkedHashIterator", name := "hasNext", desc := "()Z" } : Jvm.MethodName)) ∈ lw_all := lw_g (lw_at lw_m5 55 rfl) rfl
theorem q1153 : (Jvm.Cond.publicMethod ({ cls := "java/util/LinkedHashMap$LinkedHashIterator", name := "hasNext", desc := "()Z" } : Jvm.MethodName)) ∈ lw_tbl := lw_at lw_m5 56 rfl
theorem q1154 : (Jvm.Cond.code ({ cls := "java/util/LinkedHashMap$LinkedHashIterator", name := "hasNext", desc := "()Z" } : Jvm.MethodName) prog_59_method_2_code (1 : Nat) (Option.some Jvm.ClassFile.FieldType.boolean)) ∈ lw_all := lw_g (lw_at lw_m5 57 rfl) rfl
theorem q1177 : (Jvm.Cond.declares ({ cls := "java/util/LinkedHashMap$LinkedHashIterator", name := "nextNode", desc := "()Ljava/util/LinkedHashMap$Entry;" } : Jvm.MethodName)) ∈ lw_tbl := lw_at lw_m5 80 rfl
theorem q1179 : (Jvm.Cond.instanceMethod ({ cls := "java/util/LinkedHashMap$LinkedHashIterator", name := "nextNode", desc := "()Ljava/util/LinkedHashMap$Entry;" } : Jvm.MethodName)) ∈ lw_all := lw_g (lw_at lw_m5 82 rfl) rfl
theorem q1180 : (Jvm.Cond.code ({ cls := "java/util/LinkedHashMap$LinkedHashIterator", name := "nextNode", desc := "()Ljava/util/LinkedHashMap$Entry;" } : Jvm.MethodName) prog_59_method_3_code (2 : Nat) (Option.some (Jvm.ClassFile.FieldType.object "java/util/LinkedHashMap$Entry"))) ∈ lw_all := lw_g (lw_at lw_m5 83 rfl) rfl

/-! java/util/LinkedHashMap$LinkedKeyIterator -/
set_option maxRecDepth 100000
def RJ19 : String := "java/util/LinkedHashMap$LinkedKeyIterator"
def TJ19 : u_T := fun k => match k with
  | 0 => ("java/util/LinkedHashMap$LinkedHashIterator", "next", "Ljava/util/LinkedHashMap$Entry;", false)
  | 1 => ("java/util/LinkedHashMap$LinkedHashIterator", "current", "Ljava/util/LinkedHashMap$Entry;", false)
  | 2 => ("java/util/LinkedHashMap$LinkedHashIterator", "expectedModCount", "I", false)
  | 3 => ("java/util/LinkedHashMap$LinkedHashIterator", "reversed", "Z", false)
  | _ => ("java/util/LinkedHashMap$LinkedHashIterator", "this$0", "Ljava/util/LinkedHashMap;", true)
def tyJ19 : Nat → FieldType := fun k => match k with
  | 0 => .object "java/util/LinkedHashMap$Entry"
  | 1 => .object "java/util/LinkedHashMap$Entry"
  | 2 => .int
  | 3 => .boolean
  | _ => .object "java/util/LinkedHashMap"
abbrev wsJ190 : List Cond := u_ws RJ19 TJ19 5
theorem nmJ19 : ∀ a, a < 5 → ∀ b, b < 5 → a ≠ b → (TJ19 a).2.1 ≠ (TJ19 b).2.1 := by decide +kernel
theorem tyJ19_ok : ∀ k, k < 5 → parseFieldDescriptor (TJ19 k).2.2.1 = some (tyJ19 k) := by decide +kernel
abbrev cJ19_init : ByteArray := prog_60_method_1_code
def yJ19_init : MethodName := ⟨RJ19, "<init>", "(Ljava/util/LinkedHashMap;Z)V"⟩
def dkwJ19_init_0 : List UInt8 := [42, 43, 28, 183, 0, 1, 177]
abbrev dktJ19_init_0 : List UInt8 := dkwJ19_init_0 ++ []
theorem dksJ19_init_0 : cJ19_init.data.toList.drop 0 = dktJ19_init_0 := by decide +kernel
theorem dJ19_init_0 : decode cJ19_init 0 = .ok (.aload_n 0, 1) := dk_42 (dk_at dksJ19_init_0 0 rfl rfl)
theorem dJ19_init_1 : decode cJ19_init 1 = .ok (.aload_n 1, 1) := dk_43 (dk_at dksJ19_init_0 1 rfl rfl)
theorem dJ19_init_2 : decode cJ19_init 2 = .ok (.iload_n 2, 1) := dk_28 (dk_at dksJ19_init_0 2 rfl rfl)
theorem dJ19_init_3 : decode cJ19_init 3 = .ok (.invokespecial 1, 3) := dk_183 0 1 (dk_at dksJ19_init_0 3 rfl rfl)
theorem dJ19_init_6 : decode cJ19_init 6 = .ok (.return_, 1) := dk_177 (dk_at dksJ19_init_0 6 rfl rfl)
abbrev cJ19_next : ByteArray := prog_60_method_2_code
def yJ19_next : MethodName := ⟨RJ19, "next", "()Ljava/lang/Object;"⟩
def dkwJ19_next_0 : List UInt8 := [42, 182, 0, 7, 182, 0, 13, 176]
abbrev dktJ19_next_0 : List UInt8 := dkwJ19_next_0 ++ []
theorem dksJ19_next_0 : cJ19_next.data.toList.drop 0 = dktJ19_next_0 := by decide +kernel
theorem dJ19_next_0 : decode cJ19_next 0 = .ok (.aload_n 0, 1) := dk_42 (dk_at dksJ19_next_0 0 rfl rfl)
theorem dJ19_next_1 : decode cJ19_next 1 = .ok (.invokevirtual 7, 3) := dk_182 0 7 (dk_at dksJ19_next_0 1 rfl rfl)
theorem dJ19_next_4 : decode cJ19_next 4 = .ok (.invokevirtual 13, 3) := dk_182 0 13 (dk_at dksJ19_next_0 4 rfl rfl)
theorem dJ19_next_7 : decode cJ19_next 7 = .ok (.areturn, 1) := dk_176 (dk_at dksJ19_next_0 7 rfl rfl)
theorem q170 : (Jvm.Cond.initialized "java/util/LinkedHashMap$LinkedKeyIterator") ∈ lw_all := lw_g (lw_at lw_m1 33 rfl) rfl
theorem q780 : (Jvm.Cond.selects "java/util/LinkedHashMap$LinkedKeyIterator" ({ cls := "java/lang/Object", name := "getClass", desc := "()Ljava/lang/Class;" } : Jvm.MethodName) ({ cls := "java/lang/Object", name := "getClass", desc := "()Ljava/lang/Class;" } : Jvm.MethodName)) ∈ lw_all := lw_g (lw_at lw_m3 163 rfl) rfl
theorem q1115 : (Jvm.Cond.instantiable "java/util/LinkedHashMap$LinkedKeyIterator" (5 : Nat)) ∈ lw_all := lw_g (lw_at lw_m5 18 rfl) rfl
theorem q1117 : (Jvm.Cond.instanceMethod ({ cls := "java/util/LinkedHashMap$LinkedKeyIterator", name := "<init>", desc := "(Ljava/util/LinkedHashMap;Z)V" } : Jvm.MethodName)) ∈ lw_all := lw_g (lw_at lw_m5 20 rfl) rfl
theorem q1118 : (Jvm.Cond.code ({ cls := "java/util/LinkedHashMap$LinkedKeyIterator", name := "<init>", desc := "(Ljava/util/LinkedHashMap;Z)V" } : Jvm.MethodName) prog_60_method_1_code (3 : Nat) (Option.none : Option Jvm.ClassFile.FieldType)) ∈ lw_all := lw_g (lw_at lw_m5 21 rfl) rfl
theorem q1119 : (Jvm.Cond.methodLink "java/util/LinkedHashMap$LinkedKeyIterator" (1 : Nat) ({ cls := "java/util/LinkedHashMap$LinkedHashIterator", name := "<init>", desc := "(Ljava/util/LinkedHashMap;Z)V" } : Jvm.MethodName)) ∈ lw_all := lw_g (lw_at lw_m5 22 rfl) rfl
theorem q1128 : (Jvm.Cond.lays "java/util/LinkedHashMap$LinkedKeyIterator" "java/util/LinkedHashMap$LinkedHashIterator" "next" "Ljava/util/LinkedHashMap$Entry;") ∈ lw_all := lw_g (lw_at lw_m5 31 rfl) rfl
theorem q1130 : (Jvm.Cond.lays "java/util/LinkedHashMap$LinkedKeyIterator" "java/util/LinkedHashMap$LinkedHashIterator" "current" "Ljava/util/LinkedHashMap$Entry;") ∈ lw_all := lw_g (lw_at lw_m5 33 rfl) rfl
theorem q1132 : (Jvm.Cond.lays "java/util/LinkedHashMap$LinkedKeyIterator" "java/util/LinkedHashMap$LinkedHashIterator" "expectedModCount" "I") ∈ lw_all := lw_g (lw_at lw_m5 35 rfl) rfl
theorem q1134 : (Jvm.Cond.lays "java/util/LinkedHashMap$LinkedKeyIterator" "java/util/LinkedHashMap$LinkedHashIterator" "reversed" "Z") ∈ lw_all := lw_g (lw_at lw_m5 37 rfl) rfl
theorem q1136 : (Jvm.Cond.laysFinal "java/util/LinkedHashMap$LinkedKeyIterator" "java/util/LinkedHashMap$LinkedHashIterator" "this$0" "Ljava/util/LinkedHashMap;") ∈ lw_all := lw_g (lw_at lw_m5 39 rfl) rfl
theorem q1138 : (Jvm.Cond.superclass "java/util/LinkedHashMap$LinkedKeyIterator" "java/util/LinkedHashMap$LinkedHashIterator") ∈ lw_all := lw_g (lw_at lw_m5 41 rfl) rfl
theorem q1149 : (Jvm.Cond.castable "java/util/LinkedHashMap$LinkedKeyIterator" "java/util/Iterator") ∈ lw_tbl := lw_at lw_m5 52 rfl
theorem q1150 : (Jvm.Cond.selects "java/util/LinkedHashMap$LinkedKeyIterator" ({ cls := "java/util/Iterator", name := "hasNext", desc := "()Z" } : Jvm.MethodName) ({ cls := "java/util/LinkedHashMap$LinkedHashIterator", name := "hasNext", desc := "()Z" } : Jvm.MethodName)) ∈ lw_all := lw_g (lw_at lw_m5 53 rfl) rfl
theorem q1151 : (Jvm.Cond.unhidden "java/util/LinkedHashMap$LinkedKeyIterator" "hasNext" "()Z") ∈ lw_tbl := lw_at lw_m5 54 rfl
theorem q1170 : (Jvm.Cond.selects "java/util/LinkedHashMap$LinkedKeyIterator" ({ cls := "java/util/Iterator", name := "next", desc := "()Ljava/lang/Object;" } : Jvm.MethodName) ({ cls := "java/util/LinkedHashMap$LinkedKeyIterator", name := "next", desc := "()Ljava/lang/Object;" } : Jvm.MethodName)) ∈ lw_all := lw_g (lw_at lw_m5 73 rfl) rfl
theorem q1171 : (Jvm.Cond.unhidden "java/util/LinkedHashMap$LinkedKeyIterator" "next" "()Ljava/lang/Object;") ∈ lw_tbl := lw_at lw_m5 74 rfl
theorem q1172 : (Jvm.Cond.instanceMethod ({ cls := "java/util/LinkedHashMap$LinkedKeyIterator", name := "next", desc := "()Ljava/lang/Object;" } : Jvm.MethodName)) ∈ lw_all := lw_g (lw_at lw_m5 75 rfl) rfl
theorem q1173 : (Jvm.Cond.publicMethod ({ cls := "java/util/LinkedHashMap$LinkedKeyIterator", name := "next", desc := "()Ljava/lang/Object;" } : Jvm.MethodName)) ∈ lw_tbl := lw_at lw_m5 76 rfl
theorem q1174 : (Jvm.Cond.code ({ cls := "java/util/LinkedHashMap$LinkedKeyIterator", name := "next", desc := "()Ljava/lang/Object;" } : Jvm.MethodName) prog_60_method_2_code (1 : Nat) (Option.some (Jvm.ClassFile.FieldType.object "java/lang/Object"))) ∈ lw_all := lw_g (lw_at lw_m5 77 rfl) rfl
theorem q1175 : (Jvm.Cond.methodLink "java/util/LinkedHashMap$LinkedKeyIterator" (7 : Nat) ({ cls := "java/util/LinkedHashMap$LinkedKeyIterator", name := "nextNode", desc := "()Ljava/util/LinkedHashMap$Entry;" } : Jvm.MethodName)) ∈ lw_all := lw_g (lw_at lw_m5 78 rfl) rfl
theorem q1176 : (Jvm.Cond.sameMethod "java/util/LinkedHashMap$LinkedKeyIterator" "java/util/LinkedHashMap$LinkedHashIterator" "nextNode" "()Ljava/util/LinkedHashMap$Entry;") ∈ lw_all := lw_g (lw_at lw_m5 79 rfl) rfl
theorem q1178 : (Jvm.Cond.selects "java/util/LinkedHashMap$LinkedKeyIterator" ({ cls := "java/util/LinkedHashMap$LinkedKeyIterator", name := "nextNode", desc := "()Ljava/util/LinkedHashMap$Entry;" } : Jvm.MethodName) ({ cls := "java/util/LinkedHashMap$LinkedHashIterator", name := "nextNode", desc := "()Ljava/util/LinkedHashMap$Entry;" } : Jvm.MethodName)) ∈ lw_all := lw_g (lw_at lw_m5 81 rfl) rfl
theorem q1181 : (Jvm.Cond.methodLink "java/util/LinkedHashMap$LinkedKeyIterator" (13 : Nat) ({ cls := "java/util/LinkedHashMap$Entry", name := "getKey", desc := "()Ljava/lang/Object;" } : Jvm.MethodName)) ∈ lw_all := lw_g (lw_at lw_m5 84 rfl) rfl
theorem q2755 : (Jvm.Cond.castable "java/util/LinkedHashMap$LinkedKeyIterator" "java/lang/Object") ∈ lw_tbl := lw_at lw_m11 218 rfl
theorem in_J19 : ∀ w ∈ wsJ190, w ∈ lw_all := lw_in wsJ190 [1128, 1130, 1132, 1134, 1136] (by decide +kernel) (by decide +kernel)

/-! java/lang/IndexOutOfBoundsException -/
set_option maxRecDepth 100000
def RJ20 : String := "java/lang/IndexOutOfBoundsException"
abbrev cJ20_init : ByteArray := prog_31_method_2_code
def yJ20_init : MethodName := ⟨RJ20, "<init>", "(Ljava/lang/String;)V"⟩
def dkwJ20_init_0 : List UInt8 := [42, 43, 183, 0, 7, 177]
abbrev dktJ20_init_0 : List UInt8 := dkwJ20_init_0 ++ []
theorem dksJ20_init_0 : cJ20_init.data.toList.drop 0 = dktJ20_init_0 := by decide +kernel
theorem dJ20_init_0 : decode cJ20_init 0 = .ok (.aload_n 0, 1) := dk_42 (dk_at dksJ20_init_0 0 rfl rfl)
theorem dJ20_init_1 : decode cJ20_init 1 = .ok (.aload_n 1, 1) := dk_43 (dk_at dksJ20_init_0 1 rfl rfl)
theorem dJ20_init_2 : decode cJ20_init 2 = .ok (.invokespecial 7, 3) := dk_183 0 7 (dk_at dksJ20_init_0 2 rfl rfl)
theorem dJ20_init_5 : decode cJ20_init 5 = .ok (.return_, 1) := dk_177 (dk_at dksJ20_init_0 5 rfl rfl)
theorem q179 : (Jvm.Cond.initialized "java/lang/IndexOutOfBoundsException") ∈ lw_all := lw_g (lw_at lw_m1 42 rfl) rfl
theorem q1478 : (Jvm.Cond.instanceMethod ({ cls := "java/lang/IndexOutOfBoundsException", name := "<init>", desc := "(Ljava/lang/String;)V" } : Jvm.MethodName)) ∈ lw_all := lw_g (lw_at lw_m6 141 rfl) rfl
theorem q1479 : (Jvm.Cond.code ({ cls := "java/lang/IndexOutOfBoundsException", name := "<init>", desc := "(Ljava/lang/String;)V" } : Jvm.MethodName) prog_31_method_2_code (2 : Nat) (Option.none : Option Jvm.ClassFile.FieldType)) ∈ lw_all := lw_g (lw_at lw_m6 142 rfl) rfl
theorem q1480 : (Jvm.Cond.methodLink "java/lang/IndexOutOfBoundsException" (7 : Nat) ({ cls := "java/lang/RuntimeException", name := "<init>", desc := "(Ljava/lang/String;)V" } : Jvm.MethodName)) ∈ lw_all := lw_g (lw_at lw_m6 143 rfl) rfl
theorem q1497 : (Jvm.Cond.declares ({ cls := "java/lang/IndexOutOfBoundsException", name := "<init>", desc := "()V" } : Jvm.MethodName)) ∈ lw_tbl := lw_at lw_m6 160 rfl
theorem q1498 : (Jvm.Cond.declares ({ cls := "java/lang/IndexOutOfBoundsException", name := "<init>", desc := "(Ljava/lang/String;)V" } : Jvm.MethodName)) ∈ lw_tbl := lw_at lw_m6 161 rfl

/-! java/lang/ArrayIndexOutOfBoundsException -/
set_option maxRecDepth 100000
def RJ21 : String := "java/lang/ArrayIndexOutOfBoundsException"
def TJ21 : u_T := fun k => match k with
  | 0 => ("java/lang/Throwable", "backtrace", "Ljava/lang/Object;", false)
  | 1 => ("java/lang/Throwable", "detailMessage", "Ljava/lang/String;", false)
  | 2 => ("java/lang/Throwable", "cause", "Ljava/lang/Throwable;", false)
  | 3 => ("java/lang/Throwable", "stackTrace", "[Ljava/lang/StackTraceElement;", false)
  | 4 => ("java/lang/Throwable", "depth", "I", false)
  | _ => ("java/lang/Throwable", "suppressedExceptions", "Ljava/util/List;", false)
def tyJ21 : Nat → FieldType := fun k => match k with
  | 0 => .object "java/lang/Object"
  | 1 => .object "java/lang/String"
  | 2 => .object "java/lang/Throwable"
  | 3 => .array (.object "java/lang/StackTraceElement")
  | 4 => .int
  | _ => .object "java/util/List"
abbrev wsJ210 : List Cond := u_ws RJ21 TJ21 6
theorem nmJ21 : ∀ a, a < 6 → ∀ b, b < 6 → a ≠ b → (TJ21 a).2.1 ≠ (TJ21 b).2.1 := by decide +kernel
theorem tyJ21_ok : ∀ k, k < 6 → parseFieldDescriptor (TJ21 k).2.2.1 = some (tyJ21 k) := by decide +kernel
abbrev cJ21_init : ByteArray := prog_27_method_2_code
def yJ21_init : MethodName := ⟨RJ21, "<init>", "(Ljava/lang/String;)V"⟩
def dkwJ21_init_0 : List UInt8 := [42, 43, 183, 0, 7, 177]
abbrev dktJ21_init_0 : List UInt8 := dkwJ21_init_0 ++ []
theorem dksJ21_init_0 : cJ21_init.data.toList.drop 0 = dktJ21_init_0 := by decide +kernel
theorem dJ21_init_0 : decode cJ21_init 0 = .ok (.aload_n 0, 1) := dk_42 (dk_at dksJ21_init_0 0 rfl rfl)
theorem dJ21_init_1 : decode cJ21_init 1 = .ok (.aload_n 1, 1) := dk_43 (dk_at dksJ21_init_0 1 rfl rfl)
theorem dJ21_init_2 : decode cJ21_init 2 = .ok (.invokespecial 7, 3) := dk_183 0 7 (dk_at dksJ21_init_0 2 rfl rfl)
theorem dJ21_init_5 : decode cJ21_init 5 = .ok (.return_, 1) := dk_177 (dk_at dksJ21_init_0 5 rfl rfl)
theorem q180 : (Jvm.Cond.initialized "java/lang/ArrayIndexOutOfBoundsException") ∈ lw_all := lw_g (lw_at lw_m1 43 rfl) rfl
theorem q378 : (Jvm.Cond.selects "java/lang/ArrayIndexOutOfBoundsException" ({ cls := "java/lang/Throwable", name := "fillInStackTrace", desc := "()Ljava/lang/Throwable;" } : Jvm.MethodName) ({ cls := "java/lang/Throwable", name := "fillInStackTrace", desc := "()Ljava/lang/Throwable;" } : Jvm.MethodName)) ∈ lw_all := lw_g (lw_at lw_m2 1 rfl) rfl
theorem q656 : (Jvm.Cond.selects "java/lang/ArrayIndexOutOfBoundsException" ({ cls := "java/lang/Object", name := "hashCode", desc := "()I" } : Jvm.MethodName) ({ cls := "java/lang/Object", name := "hashCode", desc := "()I" } : Jvm.MethodName)) ∈ lw_all := lw_g (lw_at lw_m3 39 rfl) rfl
theorem q721 : (Jvm.Cond.selects "java/lang/ArrayIndexOutOfBoundsException" ({ cls := "java/lang/Object", name := "equals", desc := "(Ljava/lang/Object;)Z" } : Jvm.MethodName) ({ cls := "java/lang/Object", name := "equals", desc := "(Ljava/lang/Object;)Z" } : Jvm.MethodName)) ∈ lw_all := lw_g (lw_at lw_m3 104 rfl) rfl
theorem q770 : (Jvm.Cond.selects "java/lang/ArrayIndexOutOfBoundsException" ({ cls := "java/lang/Object", name := "getClass", desc := "()Ljava/lang/Class;" } : Jvm.MethodName) ({ cls := "java/lang/Object", name := "getClass", desc := "()Ljava/lang/Class;" } : Jvm.MethodName)) ∈ lw_all := lw_g (lw_at lw_m3 153 rfl) rfl
theorem q1474 : (Jvm.Cond.instantiable "java/lang/ArrayIndexOutOfBoundsException" (6 : Nat)) ∈ lw_all := lw_g (lw_at lw_m6 137 rfl) rfl
theorem q1475 : (Jvm.Cond.instanceMethod ({ cls := "java/lang/ArrayIndexOutOfBoundsException", name := "<init>", desc := "(Ljava/lang/String;)V" } : Jvm.MethodName)) ∈ lw_all := lw_g (lw_at lw_m6 138 rfl) rfl
theorem q1476 : (Jvm.Cond.code ({ cls := "java/lang/ArrayIndexOutOfBoundsException", name := "<init>", desc := "(Ljava/lang/String;)V" } : Jvm.MethodName) prog_27_method_2_code (2 : Nat) (Option.none : Option Jvm.ClassFile.FieldType)) ∈ lw_all := lw_g (lw_at lw_m6 139 rfl) rfl
theorem q1477 : (Jvm.Cond.methodLink "java/lang/ArrayIndexOutOfBoundsException" (7 : Nat) ({ cls := "java/lang/IndexOutOfBoundsException", name := "<init>", desc := "(Ljava/lang/String;)V" } : Jvm.MethodName)) ∈ lw_all := lw_g (lw_at lw_m6 140 rfl) rfl
theorem q1489 : (Jvm.Cond.lays "java/lang/ArrayIndexOutOfBoundsException" "java/lang/Throwable" "backtrace" "Ljava/lang/Object;") ∈ lw_all := lw_g (lw_at lw_m6 152 rfl) rfl
theorem q1490 : (Jvm.Cond.lays "java/lang/ArrayIndexOutOfBoundsException" "java/lang/Throwable" "detailMessage" "Ljava/lang/String;") ∈ lw_all := lw_g (lw_at lw_m6 153 rfl) rfl
theorem q1491 : (Jvm.Cond.lays "java/lang/ArrayIndexOutOfBoundsException" "java/lang/Throwable" "cause" "Ljava/lang/Throwable;") ∈ lw_all := lw_g (lw_at lw_m6 154 rfl) rfl
theorem q1492 : (Jvm.Cond.lays "java/lang/ArrayIndexOutOfBoundsException" "java/lang/Throwable" "stackTrace" "[Ljava/lang/StackTraceElement;") ∈ lw_all := lw_g (lw_at lw_m6 155 rfl) rfl
theorem q1493 : (Jvm.Cond.lays "java/lang/ArrayIndexOutOfBoundsException" "java/lang/Throwable" "depth" "I") ∈ lw_all := lw_g (lw_at lw_m6 156 rfl) rfl
theorem q1494 : (Jvm.Cond.lays "java/lang/ArrayIndexOutOfBoundsException" "java/lang/Throwable" "suppressedExceptions" "Ljava/util/List;") ∈ lw_all := lw_g (lw_at lw_m6 157 rfl) rfl
theorem q1495 : (Jvm.Cond.superclass "java/lang/ArrayIndexOutOfBoundsException" "java/lang/IndexOutOfBoundsException") ∈ lw_all := lw_g (lw_at lw_m6 158 rfl) rfl
theorem q1496 : (Jvm.Cond.castable "java/lang/ArrayIndexOutOfBoundsException" "java/lang/ArrayIndexOutOfBoundsException") ∈ lw_tbl := lw_at lw_m6 159 rfl
theorem q1499 : (Jvm.Cond.selects "java/lang/ArrayIndexOutOfBoundsException" ({ cls := "java/lang/Throwable", name := "fillInStackTrace", desc := "(I)Ljava/lang/Throwable;" } : Jvm.MethodName) ({ cls := "java/lang/Throwable", name := "fillInStackTrace", desc := "(I)Ljava/lang/Throwable;" } : Jvm.MethodName)) ∈ lw_all := lw_g (lw_at lw_m6 162 rfl) rfl
theorem q2763 : (Jvm.Cond.castable "java/lang/ArrayIndexOutOfBoundsException" "java/lang/Object") ∈ lw_tbl := lw_at lw_m11 226 rfl
theorem in_J21 : ∀ w ∈ wsJ210, w ∈ lw_all := lw_in wsJ210 [1489, 1490, 1491, 1492, 1493, 1494] (by decide +kernel) (by decide +kernel)

/-! java/lang/String -/
set_option maxRecDepth 100000
def RJ22 : String := "java/lang/String"
def TJ22 : u_T := fun k => match k with
  | 0 => ("java/lang/String", "value", "[B", true)
  | _ => ("java/lang/String", "coder", "B", true)
def tyJ22 : Nat → FieldType := fun k => match k with
  | 0 => .array .byte
  | _ => .byte
abbrev wsJ220 : List Cond := u_ws RJ22 TJ22 2
theorem nmJ22 : ∀ a, a < 2 → ∀ b, b < 2 → a ≠ b → (TJ22 a).2.1 ≠ (TJ22 b).2.1 := by decide +kernel
theorem tyJ22_ok : ∀ k, k < 2 → parseFieldDescriptor (TJ22 k).2.2.1 = some (tyJ22 k) := by decide +kernel
theorem q181 : (Jvm.Cond.initialized "java/lang/String") ∈ lw_all := lw_g (lw_at lw_m1 44 rfl) rfl
theorem q1500 : (Jvm.Cond.instantiable "java/lang/String" (4 : Nat)) ∈ lw_all := lw_g (lw_at lw_m6 163 rfl) rfl
theorem q1501 : (Jvm.Cond.laysFinal "java/lang/String" "java/lang/String" "value" "[B") ∈ lw_all := lw_g (lw_at lw_m6 164 rfl) rfl
theorem q1502 : (Jvm.Cond.soleField "java/lang/String" "value") ∈ lw_all := lw_g (lw_at lw_m6 165 rfl) rfl
theorem q1503 : (Jvm.Cond.laysFinal "java/lang/String" "java/lang/String" "coder" "B") ∈ lw_all := lw_g (lw_at lw_m6 166 rfl) rfl
theorem q1504 : (Jvm.Cond.soleField "java/lang/String" "coder") ∈ lw_all := lw_g (lw_at lw_m6 167 rfl) rfl
theorem q2738 : (Jvm.Cond.castable "java/lang/String" "java/lang/Comparable") ∈ lw_tbl := lw_at lw_m11 201 rfl
theorem q2771 : (Jvm.Cond.castable "java/lang/String" "java/lang/Object") ∈ lw_tbl := lw_at lw_m11 234 rfl
theorem in_J22 : ∀ w ∈ wsJ220, w ∈ lw_all := lw_in wsJ220 [1501, 1503] (by decide +kernel) (by decide +kernel)

/-! java/util/HashSet -/
set_option maxRecDepth 100000
def RJ23 : String := "java/util/HashSet"
def TJ23 : u_T := fun k => match k with
  | _ => ("java/util/HashSet", "map", "Ljava/util/HashMap;", false)
def tyJ23 : Nat → FieldType := fun k => match k with
  | _ => .object "java/util/HashMap"
abbrev wsJ230 : List Cond := u_ws RJ23 TJ23 1
theorem nmJ23 : ∀ a, a < 1 → ∀ b, b < 1 → a ≠ b → (TJ23 a).2.1 ≠ (TJ23 b).2.1 := by decide +kernel
theorem tyJ23_ok : ∀ k, k < 1 → parseFieldDescriptor (TJ23 k).2.2.1 = some (tyJ23 k) := by decide +kernel
abbrev cJ23_iterator : ByteArray := prog_55_method_6_code
def yJ23_iterator : MethodName := ⟨RJ23, "iterator", "()Ljava/util/Iterator;"⟩
def dkwJ23_iterator_0 : List UInt8 := [42, 180, 0, 10, 182, 0, 45, 185, 0, 49, 1, 0, 176]
abbrev dktJ23_iterator_0 : List UInt8 := dkwJ23_iterator_0 ++ []
theorem dksJ23_iterator_0 : cJ23_iterator.data.toList.drop 0 = dktJ23_iterator_0 := by decide +kernel
theorem dJ23_iterator_0 : decode cJ23_iterator 0 = .ok (.aload_n 0, 1) := dk_42 (dk_at dksJ23_iterator_0 0 rfl rfl)
theorem dJ23_iterator_1 : decode cJ23_iterator 1 = .ok (.getfield 10, 3) := dk_180 0 10 (dk_at dksJ23_iterator_0 1 rfl rfl)
theorem dJ23_iterator_4 : decode cJ23_iterator 4 = .ok (.invokevirtual 45, 3) := dk_182 0 45 (dk_at dksJ23_iterator_0 4 rfl rfl)
theorem dJ23_iterator_7 : decode cJ23_iterator 7 = .ok (.invokeinterface 49 1, 5) := by decide +kernel
theorem dJ23_iterator_12 : decode cJ23_iterator 12 = .ok (.areturn, 1) := dk_176 (dk_at dksJ23_iterator_0 12 rfl rfl)
abbrev cJ23_init : ByteArray := prog_55_method_1_code
def yJ23_init : MethodName := ⟨RJ23, "<init>", "()V"⟩
def dkwJ23_init_0 : List UInt8 := [42, 183, 0, 1, 42, 187, 0, 7, 89, 183, 0, 9, 181, 0, 10, 177]
abbrev dktJ23_init_0 : List UInt8 := dkwJ23_init_0 ++ []
theorem dksJ23_init_0 : cJ23_init.data.toList.drop 0 = dktJ23_init_0 := by decide +kernel
theorem dJ23_init_0 : decode cJ23_init 0 = .ok (.aload_n 0, 1) := dk_42 (dk_at dksJ23_init_0 0 rfl rfl)
theorem dJ23_init_1 : decode cJ23_init 1 = .ok (.invokespecial 1, 3) := dk_183 0 1 (dk_at dksJ23_init_0 1 rfl rfl)
theorem dJ23_init_4 : decode cJ23_init 4 = .ok (.aload_n 0, 1) := dk_42 (dk_at dksJ23_init_0 4 rfl rfl)
theorem dJ23_init_5 : decode cJ23_init 5 = .ok (.new 7, 3) := dk_187 0 7 (dk_at dksJ23_init_0 5 rfl rfl)
theorem dJ23_init_8 : decode cJ23_init 8 = .ok (.dup, 1) := dk_89 (dk_at dksJ23_init_0 8 rfl rfl)
theorem dJ23_init_9 : decode cJ23_init 9 = .ok (.invokespecial 9, 3) := dk_183 0 9 (dk_at dksJ23_init_0 9 rfl rfl)
theorem dJ23_init_12 : decode cJ23_init 12 = .ok (.putfield 10, 3) := dk_181 0 10 (dk_at dksJ23_init_0 12 rfl rfl)
theorem dJ23_init_15 : decode cJ23_init 15 = .ok (.return_, 1) := dk_177 (dk_at dksJ23_init_0 15 rfl rfl)
abbrev cJ23_add : ByteArray := prog_55_method_10_code
def yJ23_add : MethodName := ⟨RJ23, "add", "(Ljava/lang/Object;)Z"⟩
def dkwJ23_add_0 : List UInt8 := [42, 180, 0, 10, 43, 178, 0, 64, 182, 0, 68, 199, 0, 7, 4, 167, 0, 4, 3, 172]
abbrev dktJ23_add_0 : List UInt8 := dkwJ23_add_0 ++ []
theorem dksJ23_add_0 : cJ23_add.data.toList.drop 0 = dktJ23_add_0 := by decide +kernel
theorem dJ23_add_0 : decode cJ23_add 0 = .ok (.aload_n 0, 1) := dk_42 (dk_at dksJ23_add_0 0 rfl rfl)
theorem dJ23_add_1 : decode cJ23_add 1 = .ok (.getfield 10, 3) := dk_180 0 10 (dk_at dksJ23_add_0 1 rfl rfl)
theorem dJ23_add_4 : decode cJ23_add 4 = .ok (.aload_n 1, 1) := dk_43 (dk_at dksJ23_add_0 4 rfl rfl)
theorem dJ23_add_5 : decode cJ23_add 5 = .ok (.getstatic 64, 3) := dk_178 0 64 (dk_at dksJ23_add_0 5 rfl rfl)
theorem dJ23_add_8 : decode cJ23_add 8 = .ok (.invokevirtual 68, 3) := dk_182 0 68 (dk_at dksJ23_add_0 8 rfl rfl)
theorem dJ23_add_11 : decode cJ23_add 11 = .ok (.ifnonnull 7, 3) := dk_199 0 7 (dk_at dksJ23_add_0 11 rfl rfl)
theorem dJ23_add_14 : decode cJ23_add 14 = .ok (.iconst 1, 1) := dk_4 (dk_at dksJ23_add_0 14 rfl rfl)
theorem dJ23_add_15 : decode cJ23_add 15 = .ok (.goto 4, 3) := dk_167 0 4 (dk_at dksJ23_add_0 15 rfl rfl)
theorem dJ23_add_18 : decode cJ23_add 18 = .ok (.iconst 0, 1) := dk_3 (dk_at dksJ23_add_0 18 rfl rfl)
theorem dJ23_add_19 : decode cJ23_add 19 = .ok (.ireturn, 1) := dk_172 (dk_at dksJ23_add_0 19 rfl rfl)
abbrev cJ23_size : ByteArray := prog_55_method_7_code
def yJ23_size : MethodName := ⟨RJ23, "size", "()I"⟩
def dkwJ23_size_0 : List UInt8 := [42, 180, 0, 10, 182, 0, 55, 172]
abbrev dktJ23_size_0 : List UInt8 := dkwJ23_size_0 ++ []
theorem dksJ23_size_0 : cJ23_size.data.toList.drop 0 = dktJ23_size_0 := by decide +kernel
theorem dJ23_size_0 : decode cJ23_size 0 = .ok (.aload_n 0, 1) := dk_42 (dk_at dksJ23_size_0 0 rfl rfl)
theorem dJ23_size_1 : decode cJ23_size 1 = .ok (.getfield 10, 3) := dk_180 0 10 (dk_at dksJ23_size_0 1 rfl rfl)
theorem dJ23_size_4 : decode cJ23_size 4 = .ok (.invokevirtual 55, 3) := dk_182 0 55 (dk_at dksJ23_size_0 4 rfl rfl)
theorem dJ23_size_7 : decode cJ23_size 7 = .ok (.ireturn, 1) := dk_172 (dk_at dksJ23_size_0 7 rfl rfl)
theorem q183 : (Jvm.Cond.initialized "java/util/HashSet") ∈ lw_all := lw_g (lw_at lw_m1 46 rfl) rfl
theorem q777 : (Jvm.Cond.selects "java/util/HashSet" ({ cls := "java/lang/Object", name := "getClass", desc := "()Ljava/lang/Class;" } : Jvm.MethodName) ({ cls := "java/lang/Object", name := "getClass", desc := "()Ljava/lang/Class;" } : Jvm.MethodName)) ∈ lw_all := lw_g (lw_at lw_m3 160 rfl) rfl
theorem q1084 : (Jvm.Cond.castable "java/util/HashSet" "java/util/Set") ∈ lw_tbl := lw_at lw_m4 227 rfl
theorem q1085 : (Jvm.Cond.selects "java/util/HashSet" ({ cls := "java/util/Set", name := "iterator", desc := "()Ljava/util/Iterator;" } : Jvm.MethodName) ({ cls := "java/util/HashSet", name := "iterator", desc := "()Ljava/util/Iterator;" } : Jvm.MethodName)) ∈ lw_all := lw_g (lw_at lw_m4 228 rfl) rfl
theorem q1086 : (Jvm.Cond.unhidden "java/util/HashSet" "iterator" "()Ljava/util/Iterator;") ∈ lw_tbl := lw_at lw_m4 229 rfl
theorem q1087 : (Jvm.Cond.instanceMethod ({ cls := "java/util/HashSet", name := "iterator", desc := "()Ljava/util/Iterator;" } : Jvm.MethodName)) ∈ lw_all := lw_g (lw_at lw_m4 230 rfl) rfl
theorem q1088 : (Jvm.Cond.publicMethod ({ cls := "java/util/HashSet", name := "iterator", desc := "()Ljava/util/Iterator;" } : Jvm.MethodName)) ∈ lw_tbl := lw_at lw_m4 231 rfl
theorem q1089 : (Jvm.Cond.code ({ cls := "java/util/HashSet", name := "iterator", desc := "()Ljava/util/Iterator;" } : Jvm.MethodName) prog_55_method_6_code (1 : Nat) (Option.some (Jvm.ClassFile.FieldType.object "java/util/Iterator"))) ∈ lw_all := lw_g (lw_at lw_m4 232 rfl) rfl
theorem q1090 : (Jvm.Cond.methodLink "java/util/HashSet" (45 : Nat) ({ cls := "java/util/HashMap", name := "keySet", desc := "()Ljava/util/Set;" } : Jvm.MethodName)) ∈ lw_all := lw_g (lw_at lw_m4 233 rfl) rfl
theorem q1106 : (Jvm.Cond.interfaceEntry "java/util/HashSet" (49 : Nat)) ∈ lw_tbl := lw_at lw_m5 9 rfl
theorem q1107 : (Jvm.Cond.methodLink "java/util/HashSet" (49 : Nat) ({ cls := "java/util/Set", name := "iterator", desc := "()Ljava/util/Iterator;" } : Jvm.MethodName)) ∈ lw_all := lw_g (lw_at lw_m5 10 rfl) rfl
theorem q1792 : (Jvm.Cond.instantiable "java/util/HashSet" (1 : Nat)) ∈ lw_all := lw_g (lw_at lw_m7 215 rfl) rfl
theorem q1794 : (Jvm.Cond.instanceMethod ({ cls := "java/util/HashSet", name := "<init>", desc := "()V" } : Jvm.MethodName)) ∈ lw_all := lw_g (lw_at lw_m7 217 rfl) rfl
theorem q1795 : (Jvm.Cond.code ({ cls := "java/util/HashSet", name := "<init>", desc := "()V" } : Jvm.MethodName) prog_55_method_1_code (1 : Nat) (Option.none : Option Jvm.ClassFile.FieldType)) ∈ lw_all := lw_g (lw_at lw_m7 218 rfl) rfl
theorem q1796 : (Jvm.Cond.methodLink "java/util/HashSet" (1 : Nat) ({ cls := "java/util/AbstractSet", name := "<init>", desc := "()V" } : Jvm.MethodName)) ∈ lw_all := lw_g (lw_at lw_m7 219 rfl) rfl
theorem q1797 : (Jvm.Cond.classLink "java/util/HashSet" (7 : Nat) "java/util/HashMap") ∈ lw_all := lw_g (lw_at lw_m7 220 rfl) rfl
theorem q1799 : (Jvm.Cond.methodLink "java/util/HashSet" (9 : Nat) ({ cls := "java/util/HashMap", name := "<init>", desc := "()V" } : Jvm.MethodName)) ∈ lw_all := lw_g (lw_at lw_m7 222 rfl) rfl
theorem q1809 : (Jvm.Cond.fieldLink "java/util/HashSet" (10 : Nat) "java/util/HashSet" "map" "Ljava/util/HashMap;") ∈ lw_all := lw_g (lw_at lw_m7 232 rfl) rfl
theorem q1810 : (Jvm.Cond.lays "java/util/HashSet" "java/util/HashSet" "map" "Ljava/util/HashMap;") ∈ lw_all := lw_g (lw_at lw_m7 233 rfl) rfl
theorem q1811 : (Jvm.Cond.soleField "java/util/HashSet" "map") ∈ lw_all := lw_g (lw_at lw_m7 234 rfl) rfl
theorem q1812 : (Jvm.Cond.superclass "java/util/HashSet" "java/util/AbstractSet") ∈ lw_all := lw_g (lw_at lw_m7 235 rfl) rfl
theorem q1814 : (Jvm.Cond.instanceMethod ({ cls := "java/util/HashSet", name := "add", desc := "(Ljava/lang/Object;)Z" } : Jvm.MethodName)) ∈ lw_all := lw_g (lw_at lw_m7 237 rfl) rfl
theorem q1815 : (Jvm.Cond.selects "java/util/HashSet" ({ cls := "java/util/HashSet", name := "add", desc := "(Ljava/lang/Object;)Z" } : Jvm.MethodName) ({ cls := "java/util/HashSet", name := "add", desc := "(Ljava/lang/Object;)Z" } : Jvm.MethodName)) ∈ lw_all := lw_g (lw_at lw_m7 238 rfl) rfl
theorem q1816 : (Jvm.Cond.code ({ cls := "java/util/HashSet", name := "add", desc := "(Ljava/lang/Object;)Z" } : Jvm.MethodName) prog_55_method_10_code (2 : Nat) (Option.some Jvm.ClassFile.FieldType.boolean)) ∈ lw_all := lw_g (lw_at lw_m7 239 rfl) rfl
theorem q1817 : (Jvm.Cond.fieldLink "java/util/HashSet" (64 : Nat) "java/util/HashSet" "PRESENT" "Ljava/lang/Object;") ∈ lw_all := lw_g (lw_at lw_m8 0 rfl) rfl
theorem q1818 : (Jvm.Cond.laysStatic "java/util/HashSet" "PRESENT" "Ljava/lang/Object;") ∈ lw_tbl := lw_at lw_m8 1 rfl
theorem q1819 : (Jvm.Cond.methodLink "java/util/HashSet" (68 : Nat) ({ cls := "java/util/HashMap", name := "put", desc := "(Ljava/lang/Object;Ljava/lang/Object;)Ljava/lang/Object;" } : Jvm.MethodName)) ∈ lw_all := lw_g (lw_at lw_m8 2 rfl) rfl
theorem q1821 : (Jvm.Cond.instanceMethod ({ cls := "java/util/HashSet", name := "size", desc := "()I" } : Jvm.MethodName)) ∈ lw_all := lw_g (lw_at lw_m8 4 rfl) rfl
theorem q1822 : (Jvm.Cond.selects "java/util/HashSet" ({ cls := "java/util/HashSet", name := "size", desc := "()I" } : Jvm.MethodName) ({ cls := "java/util/HashSet", name := "size", desc := "()I" } : Jvm.MethodName)) ∈ lw_all := lw_g (lw_at lw_m8 5 rfl) rfl
theorem q1823 : (Jvm.Cond.code ({ cls := "java/util/HashSet", name := "size", desc := "()I" } : Jvm.MethodName) prog_55_method_7_code (1 : Nat) (Option.some Jvm.ClassFile.FieldType.int)) ∈ lw_all := lw_g (lw_at lw_m8 6 rfl) rfl
theorem q1824 : (Jvm.Cond.methodLink "java/util/HashSet" (55 : Nat) ({ cls := "java/util/HashMap", name := "size", desc := "()I" } : Jvm.MethodName)) ∈ lw_all := lw_g (lw_at lw_m8 7 rfl) rfl
theorem q2765 : (Jvm.Cond.castable "java/util/HashSet" "java/lang/Object") ∈ lw_tbl := lw_at lw_m11 228 rfl
theorem in_J23 : ∀ w ∈ wsJ230, w ∈ lw_all := lw_in wsJ230 [1810] (by decide +kernel) (by decide +kernel)

/-! java/lang/Object -/
set_option maxRecDepth 100000
def RJ24 : String := "java/lang/Object"
abbrev cJ24_init : ByteArray := object_method_1_code
def yJ24_init : MethodName := ⟨RJ24, "<init>", "()V"⟩
theorem dJ24_init_0 : decode cJ24_init 0 = .ok (.return_, 1) := by decide +kernel
abbrev cJ24_equals : ByteArray := object_method_4_code
def yJ24_equals : MethodName := ⟨RJ24, "equals", "(Ljava/lang/Object;)Z"⟩
def dkwJ24_equals_0 : List UInt8 := [42, 43, 166, 0, 7, 4, 167, 0, 4, 3, 172]
abbrev dktJ24_equals_0 : List UInt8 := dkwJ24_equals_0 ++ []
theorem dksJ24_equals_0 : cJ24_equals.data.toList.drop 0 = dktJ24_equals_0 := by decide +kernel
theorem dJ24_equals_0 : decode cJ24_equals 0 = .ok (.aload_n 0, 1) := dk_42 (dk_at dksJ24_equals_0 0 rfl rfl)
theorem dJ24_equals_1 : decode cJ24_equals 1 = .ok (.aload_n 1, 1) := dk_43 (dk_at dksJ24_equals_0 1 rfl rfl)
theorem dJ24_equals_2 : decode cJ24_equals 2 = .ok (.if_acmp .ne 7, 3) := dk_166 0 7 (dk_at dksJ24_equals_0 2 rfl rfl)
theorem dJ24_equals_5 : decode cJ24_equals 5 = .ok (.iconst 1, 1) := dk_4 (dk_at dksJ24_equals_0 5 rfl rfl)
theorem dJ24_equals_6 : decode cJ24_equals 6 = .ok (.goto 4, 3) := dk_167 0 4 (dk_at dksJ24_equals_0 6 rfl rfl)
theorem dJ24_equals_9 : decode cJ24_equals 9 = .ok (.iconst 0, 1) := dk_3 (dk_at dksJ24_equals_0 9 rfl rfl)
theorem dJ24_equals_10 : decode cJ24_equals 10 = .ok (.ireturn, 1) := dk_172 (dk_at dksJ24_equals_0 10 rfl rfl)
theorem q191 : (Jvm.Cond.instanceMethod ({ cls := "java/lang/Object", name := "<init>", desc := "()V" } : Jvm.MethodName)) ∈ lw_all := lw_g (lw_at lw_m1 54 rfl) rfl
theorem q192 : (Jvm.Cond.code ({ cls := "java/lang/Object", name := "<init>", desc := "()V" } : Jvm.MethodName) object_method_1_code (1 : Nat) (Option.none : Option Jvm.ClassFile.FieldType)) ∈ lw_all := lw_g (lw_at lw_m1 55 rfl) rfl
theorem q602 : (Jvm.Cond.declares ({ cls := "java/lang/Object", name := "hashCode", desc := "()I" } : Jvm.MethodName)) ∈ lw_tbl := lw_at lw_m2 225 rfl
theorem q604 : (Jvm.Cond.instanceMethod ({ cls := "java/lang/Object", name := "hashCode", desc := "()I" } : Jvm.MethodName)) ∈ lw_all := lw_g (lw_at lw_m2 227 rfl) rfl
theorem q605 : (Jvm.Cond.sameMethod "java/lang/Object" "java/lang/Object" "hashCode" "()I") ∈ lw_all := lw_g (lw_at lw_m2 228 rfl) rfl
theorem q663 : (Jvm.Cond.native ({ cls := "java/lang/Object", name := "hashCode", desc := "()I" } : Jvm.MethodName)) ∈ lw_all := lw_g (lw_at lw_m3 46 rfl) rfl
theorem q664 : (Jvm.Cond.declares ({ cls := "java/lang/Object", name := "equals", desc := "(Ljava/lang/Object;)Z" } : Jvm.MethodName)) ∈ lw_tbl := lw_at lw_m3 47 rfl
theorem q666 : (Jvm.Cond.instanceMethod ({ cls := "java/lang/Object", name := "equals", desc := "(Ljava/lang/Object;)Z" } : Jvm.MethodName)) ∈ lw_all := lw_g (lw_at lw_m3 49 rfl) rfl
theorem q667 : (Jvm.Cond.sameMethod "java/lang/Object" "java/lang/Object" "equals" "(Ljava/lang/Object;)Z") ∈ lw_all := lw_g (lw_at lw_m3 50 rfl) rfl
theorem q729 : (Jvm.Cond.code ({ cls := "java/lang/Object", name := "equals", desc := "(Ljava/lang/Object;)Z" } : Jvm.MethodName) object_method_4_code (2 : Nat) (Option.some Jvm.ClassFile.FieldType.boolean)) ∈ lw_all := lw_g (lw_at lw_m3 112 rfl) rfl
theorem q749 : (Jvm.Cond.instanceMethod ({ cls := "java/lang/Object", name := "getClass", desc := "()Ljava/lang/Class;" } : Jvm.MethodName)) ∈ lw_all := lw_g (lw_at lw_m3 132 rfl) rfl
theorem q750 : (Jvm.Cond.sameMethod "java/lang/Object" "java/lang/Object" "getClass" "()Ljava/lang/Class;") ∈ lw_all := lw_g (lw_at lw_m3 133 rfl) rfl
theorem q782 : (Jvm.Cond.native ({ cls := "java/lang/Object", name := "getClass", desc := "()Ljava/lang/Class;" } : Jvm.MethodName)) ∈ lw_all := lw_g (lw_at lw_m3 165 rfl) rfl
theorem q2729 : (Jvm.Cond.initialized "java/lang/Object") ∈ lw_all := lw_g (lw_at lw_m11 192 rfl) rfl
theorem q2776 : (Jvm.Cond.declares ({ cls := "java/lang/Object", name := "getClass", desc := "()Ljava/lang/Class;" } : Jvm.MethodName)) ∈ lw_tbl := lw_at lw_m11 239 rfl
theorem q2788 : (Jvm.Cond.instantiable "java/lang/Object" (0 : Nat)) ∈ lw_all := lw_g (lw_at lw_m12 11 rfl) rfl
