set_option maxRecDepth 100000
/-! java/lang/Throwable -/
def RJ0 : String := "java/lang/Throwable"
def TJ0 : u_T := fun k => match k with
  | 0 => ("java/lang/Throwable", "cause", "Ljava/lang/Throwable;", false)
  | 1 => ("java/lang/Throwable", "stackTrace", "[Ljava/lang/StackTraceElement;", false)
  | 2 => ("java/lang/Throwable", "suppressedExceptions", "Ljava/util/List;", false)
  | 3 => ("java/lang/Throwable", "detailMessage", "Ljava/lang/String;", false)
  | _ => ("java/lang/Throwable", "backtrace", "Ljava/lang/Object;", false)
def tyJ0 : Nat → FieldType := fun k => match k with
  | 0 => .object "java/lang/Throwable"
  | 1 => .array (.object "java/lang/StackTraceElement")
  | 2 => .object "java/util/List"
  | 3 => .object "java/lang/String"
  | _ => .object "java/lang/Object"
abbrev wsJ00 : List Cond := u_ws RJ0 TJ0 5
theorem nmJ0 : ∀ a, a < 5 → ∀ b, b < 5 → a ≠ b → (TJ0 a).2.1 ≠ (TJ0 b).2.1 := by decide +kernel
theorem tyJ0_ok : ∀ k, k < 5 → parseFieldDescriptor (TJ0 k).2.2.1 = some (tyJ0 k) := by decide +kernel
abbrev cJ0_init : ByteArray := prog_11_method_1_code
def yJ0_init : MethodName := ⟨RJ0, "<init>", "()V"⟩
theorem dJ0_init_0 : decode cJ0_init 0 = .ok (.aload_n 0, 1) := by decide +kernel
theorem dJ0_init_1 : decode cJ0_init 1 = .ok (.invokespecial 1, 3) := by decide +kernel
theorem dJ0_init_4 : decode cJ0_init 4 = .ok (.aload_n 0, 1) := by decide +kernel
theorem dJ0_init_5 : decode cJ0_init 5 = .ok (.aload_n 0, 1) := by decide +kernel
theorem dJ0_init_6 : decode cJ0_init 6 = .ok (.putfield 7, 3) := by decide +kernel
theorem dJ0_init_9 : decode cJ0_init 9 = .ok (.aload_n 0, 1) := by decide +kernel
theorem dJ0_init_10 : decode cJ0_init 10 = .ok (.getstatic 13, 3) := by decide +kernel
theorem dJ0_init_13 : decode cJ0_init 13 = .ok (.putfield 17, 3) := by decide +kernel
theorem dJ0_init_16 : decode cJ0_init 16 = .ok (.aload_n 0, 1) := by decide +kernel
theorem dJ0_init_17 : decode cJ0_init 17 = .ok (.getstatic 20, 3) := by decide +kernel
theorem dJ0_init_20 : decode cJ0_init 20 = .ok (.putfield 24, 3) := by decide +kernel
theorem dJ0_init_23 : decode cJ0_init 23 = .ok (.aload_n 0, 1) := by decide +kernel
theorem dJ0_init_24 : decode cJ0_init 24 = .ok (.invokevirtual 27, 3) := by decide +kernel
theorem dJ0_init_27 : decode cJ0_init 27 = .ok (.pop, 1) := by decide +kernel
theorem dJ0_init_28 : decode cJ0_init 28 = .ok (.return_, 1) := by decide +kernel
theorem q203 : (Jvm.Cond.initialized "java/lang/Throwable") ∈ lw_all := lw_g (lw_at lw_m1 6 rfl) rfl
theorem q413 : (Jvm.Cond.declares ({ cls := "java/lang/Throwable", name := "<init>", desc := "()V" } : Jvm.MethodName)) ∈ lw_tbl := lw_at lw_m1 216 rfl
theorem q414 : (Jvm.Cond.declares ({ cls := "java/lang/Throwable", name := "<init>", desc := "(Ljava/lang/String;)V" } : Jvm.MethodName)) ∈ lw_tbl := lw_at lw_m1 217 rfl
theorem q418 : (Jvm.Cond.lays "java/lang/Throwable" "java/lang/Throwable" "cause" "Ljava/lang/Throwable;") ∈ lw_all := lw_g (lw_at lw_m1 221 rfl) rfl
theorem q420 : (Jvm.Cond.lays "java/lang/Throwable" "java/lang/Throwable" "stackTrace" "[Ljava/lang/StackTraceElement;") ∈ lw_all := lw_g (lw_at lw_m1 223 rfl) rfl
theorem q422 : (Jvm.Cond.lays "java/lang/Throwable" "java/lang/Throwable" "suppressedExceptions" "Ljava/util/List;") ∈ lw_all := lw_g (lw_at lw_m1 225 rfl) rfl
theorem q424 : (Jvm.Cond.lays "java/lang/Throwable" "java/lang/Throwable" "detailMessage" "Ljava/lang/String;") ∈ lw_all := lw_g (lw_at lw_m1 227 rfl) rfl
theorem q426 : (Jvm.Cond.lays "java/lang/Throwable" "java/lang/Throwable" "backtrace" "Ljava/lang/Object;") ∈ lw_all := lw_g (lw_at lw_m1 229 rfl) rfl
theorem q427 : (Jvm.Cond.fieldLink "java/lang/Throwable" (198 : Nat) "java/lang/Throwable" "backtrace" "Ljava/lang/Object;") ∈ lw_all := lw_g (lw_at lw_m1 230 rfl) rfl
theorem q428 : (Jvm.Cond.superclass "java/lang/Throwable" "java/lang/Object") ∈ lw_all := lw_g (lw_at lw_m1 231 rfl) rfl
theorem q429 : (Jvm.Cond.instanceMethod ({ cls := "java/lang/Throwable", name := "<init>", desc := "()V" } : Jvm.MethodName)) ∈ lw_all := lw_g (lw_at lw_m1 232 rfl) rfl
theorem q430 : (Jvm.Cond.code ({ cls := "java/lang/Throwable", name := "<init>", desc := "()V" } : Jvm.MethodName) prog_11_method_1_code (1 : Nat) (Option.none : Option Jvm.ClassFile.FieldType)) ∈ lw_all := lw_g (lw_at lw_m1 233 rfl) rfl
theorem q431 : (Jvm.Cond.methodLink "java/lang/Throwable" (1 : Nat) ({ cls := "java/lang/Object", name := "<init>", desc := "()V" } : Jvm.MethodName)) ∈ lw_all := lw_g (lw_at lw_m1 234 rfl) rfl
theorem q432 : (Jvm.Cond.fieldLink "java/lang/Throwable" (13 : Nat) "java/lang/Throwable" "UNASSIGNED_STACK" "[Ljava/lang/StackTraceElement;") ∈ lw_all := lw_g (lw_at lw_m1 235 rfl) rfl
theorem q433 : (Jvm.Cond.laysStatic "java/lang/Throwable" "UNASSIGNED_STACK" "[Ljava/lang/StackTraceElement;") ∈ lw_tbl := lw_at lw_m1 236 rfl
theorem q434 : (Jvm.Cond.fieldLink "java/lang/Throwable" (20 : Nat) "java/lang/Throwable" "SUPPRESSED_SENTINEL" "Ljava/util/List;") ∈ lw_all := lw_g (lw_at lw_m1 237 rfl) rfl
theorem q435 : (Jvm.Cond.laysStatic "java/lang/Throwable" "SUPPRESSED_SENTINEL" "Ljava/util/List;") ∈ lw_tbl := lw_at lw_m1 238 rfl
theorem q436 : (Jvm.Cond.methodLink "java/lang/Throwable" (27 : Nat) ({ cls := "java/lang/Throwable", name := "fillInStackTrace", desc := "()Ljava/lang/Throwable;" } : Jvm.MethodName)) ∈ lw_all := lw_g (lw_at lw_m1 239 rfl) rfl
theorem q437 : (Jvm.Cond.instanceMethod ({ cls := "java/lang/Throwable", name := "fillInStackTrace", desc := "()Ljava/lang/Throwable;" } : Jvm.MethodName)) ∈ lw_all := lw_g (lw_at lw_m2 0 rfl) rfl
theorem q438 : (Jvm.Cond.sameMethod "java/lang/Throwable" "java/lang/Throwable" "fillInStackTrace" "()Ljava/lang/Throwable;") ∈ lw_all := lw_g (lw_at lw_m2 1 rfl) rfl
theorem q439 : (Jvm.Cond.codeSync ({ cls := "java/lang/Throwable", name := "fillInStackTrace", desc := "()Ljava/lang/Throwable;" } : Jvm.MethodName) prog_11_method_18_code (1 : Nat) (Option.some (Jvm.ClassFile.FieldType.object "java/lang/Throwable"))) ∈ lw_all := lw_g (lw_at lw_m2 2 rfl) rfl
theorem q440 : (Jvm.Cond.methodLink "java/lang/Throwable" (202 : Nat) ({ cls := "java/lang/Throwable", name := "fillInStackTrace", desc := "(I)Ljava/lang/Throwable;" } : Jvm.MethodName)) ∈ lw_all := lw_g (lw_at lw_m2 3 rfl) rfl
theorem q441 : (Jvm.Cond.privateMethod ({ cls := "java/lang/Throwable", name := "fillInStackTrace", desc := "(I)Ljava/lang/Throwable;" } : Jvm.MethodName)) ∈ lw_tbl := lw_at lw_m2 4 rfl
theorem q442 : (Jvm.Cond.instanceMethod ({ cls := "java/lang/Throwable", name := "fillInStackTrace", desc := "(I)Ljava/lang/Throwable;" } : Jvm.MethodName)) ∈ lw_all := lw_g (lw_at lw_m2 5 rfl) rfl
theorem q443 : (Jvm.Cond.instantiable "java/lang/Throwable" (6 : Nat)) ∈ lw_all := lw_g (lw_at lw_m2 6 rfl) rfl
theorem q444 : (Jvm.Cond.native ({ cls := "java/lang/Throwable", name := "fillInStackTrace", desc := "(I)Ljava/lang/Throwable;" } : Jvm.MethodName)) ∈ lw_all := lw_g (lw_at lw_m2 7 rfl) rfl
theorem q455 : (Jvm.Cond.fieldLink "java/lang/Throwable" (198 : Nat) "java/lang/Throwable" "backtrace" "Ljava/lang/Object;") ∈ lw_all := lw_g (lw_at lw_m2 18 rfl) rfl
theorem q456 : (Jvm.Cond.fieldLink "java/lang/Throwable" (7 : Nat) "java/lang/Throwable" "cause" "Ljava/lang/Throwable;") ∈ lw_all := lw_g (lw_at lw_m2 19 rfl) rfl
theorem q457 : (Jvm.Cond.fieldLink "java/lang/Throwable" (17 : Nat) "java/lang/Throwable" "stackTrace" "[Ljava/lang/StackTraceElement;") ∈ lw_all := lw_g (lw_at lw_m2 20 rfl) rfl
theorem q458 : (Jvm.Cond.fieldLink "java/lang/Throwable" (24 : Nat) "java/lang/Throwable" "suppressedExceptions" "Ljava/util/List;") ∈ lw_all := lw_g (lw_at lw_m2 21 rfl) rfl
theorem q459 : (Jvm.Cond.soleField "java/lang/Throwable" "backtrace") ∈ lw_all := lw_g (lw_at lw_m2 22 rfl) rfl
theorem q460 : (Jvm.Cond.soleField "java/lang/Throwable" "detailMessage") ∈ lw_all := lw_g (lw_at lw_m2 23 rfl) rfl
theorem q461 : (Jvm.Cond.soleField "java/lang/Throwable" "cause") ∈ lw_all := lw_g (lw_at lw_m2 24 rfl) rfl
theorem q462 : (Jvm.Cond.soleField "java/lang/Throwable" "stackTrace") ∈ lw_all := lw_g (lw_at lw_m2 25 rfl) rfl
theorem q464 : (Jvm.Cond.soleField "java/lang/Throwable" "depth") ∈ lw_all := lw_g (lw_at lw_m2 27 rfl) rfl
theorem q465 : (Jvm.Cond.soleField "java/lang/Throwable" "suppressedExceptions") ∈ lw_all := lw_g (lw_at lw_m2 28 rfl) rfl
theorem q1456 : (Jvm.Cond.sameMethod "java/lang/Throwable" "java/lang/Throwable" "fillInStackTrace" "(I)Ljava/lang/Throwable;") ∈ lw_all := lw_g (lw_at lw_m6 59 rfl) rfl
theorem in_J0 : ∀ w ∈ wsJ00, w ∈ lw_all := lw_in wsJ00 [418, 420, 422, 424, 426] (by decide +kernel) (by decide +kernel)

/-! java/lang/Exception -/
def RJ1 : String := "java/lang/Exception"
abbrev cJ1_init : ByteArray := prog_7_method_1_code
def yJ1_init : MethodName := ⟨RJ1, "<init>", "()V"⟩
theorem dJ1_init_0 : decode cJ1_init 0 = .ok (.aload_n 0, 1) := by decide +kernel
theorem dJ1_init_1 : decode cJ1_init 1 = .ok (.invokespecial 1, 3) := by decide +kernel
theorem dJ1_init_4 : decode cJ1_init 4 = .ok (.return_, 1) := by decide +kernel
theorem q204 : (Jvm.Cond.initialized "java/lang/Exception") ∈ lw_all := lw_g (lw_at lw_m1 7 rfl) rfl
theorem q411 : (Jvm.Cond.declares ({ cls := "java/lang/Exception", name := "<init>", desc := "()V" } : Jvm.MethodName)) ∈ lw_tbl := lw_at lw_m1 214 rfl
theorem q412 : (Jvm.Cond.declares ({ cls := "java/lang/Exception", name := "<init>", desc := "(Ljava/lang/String;)V" } : Jvm.MethodName)) ∈ lw_tbl := lw_at lw_m1 215 rfl
theorem q452 : (Jvm.Cond.instanceMethod ({ cls := "java/lang/Exception", name := "<init>", desc := "()V" } : Jvm.MethodName)) ∈ lw_all := lw_g (lw_at lw_m2 15 rfl) rfl
theorem q453 : (Jvm.Cond.code ({ cls := "java/lang/Exception", name := "<init>", desc := "()V" } : Jvm.MethodName) prog_7_method_1_code (1 : Nat) (Option.none : Option Jvm.ClassFile.FieldType)) ∈ lw_all := lw_g (lw_at lw_m2 16 rfl) rfl
theorem q454 : (Jvm.Cond.methodLink "java/lang/Exception" (1 : Nat) ({ cls := "java/lang/Throwable", name := "<init>", desc := "()V" } : Jvm.MethodName)) ∈ lw_all := lw_g (lw_at lw_m2 17 rfl) rfl

/-! java/lang/RuntimeException -/
def RJ2 : String := "java/lang/RuntimeException"
abbrev cJ2_init : ByteArray := prog_9_method_1_code
def yJ2_init : MethodName := ⟨RJ2, "<init>", "()V"⟩
theorem dJ2_init_0 : decode cJ2_init 0 = .ok (.aload_n 0, 1) := by decide +kernel
theorem dJ2_init_1 : decode cJ2_init 1 = .ok (.invokespecial 1, 3) := by decide +kernel
theorem dJ2_init_4 : decode cJ2_init 4 = .ok (.return_, 1) := by decide +kernel
theorem q205 : (Jvm.Cond.initialized "java/lang/RuntimeException") ∈ lw_all := lw_g (lw_at lw_m1 8 rfl) rfl
theorem q409 : (Jvm.Cond.declares ({ cls := "java/lang/RuntimeException", name := "<init>", desc := "()V" } : Jvm.MethodName)) ∈ lw_tbl := lw_at lw_m1 212 rfl
theorem q410 : (Jvm.Cond.declares ({ cls := "java/lang/RuntimeException", name := "<init>", desc := "(Ljava/lang/String;)V" } : Jvm.MethodName)) ∈ lw_tbl := lw_at lw_m1 213 rfl
theorem q449 : (Jvm.Cond.instanceMethod ({ cls := "java/lang/RuntimeException", name := "<init>", desc := "()V" } : Jvm.MethodName)) ∈ lw_all := lw_g (lw_at lw_m2 12 rfl) rfl
theorem q450 : (Jvm.Cond.code ({ cls := "java/lang/RuntimeException", name := "<init>", desc := "()V" } : Jvm.MethodName) prog_9_method_1_code (1 : Nat) (Option.none : Option Jvm.ClassFile.FieldType)) ∈ lw_all := lw_g (lw_at lw_m2 13 rfl) rfl
theorem q451 : (Jvm.Cond.methodLink "java/lang/RuntimeException" (1 : Nat) ({ cls := "java/lang/Exception", name := "<init>", desc := "()V" } : Jvm.MethodName)) ∈ lw_all := lw_g (lw_at lw_m2 14 rfl) rfl

/-! java/lang/IllegalStateException -/
def RJ3 : String := "java/lang/IllegalStateException"
def TJ3 : u_T := fun k => match k with
  | 0 => ("java/lang/Throwable", "cause", "Ljava/lang/Throwable;", false)
  | 1 => ("java/lang/Throwable", "stackTrace", "[Ljava/lang/StackTraceElement;", false)
  | 2 => ("java/lang/Throwable", "suppressedExceptions", "Ljava/util/List;", false)
  | 3 => ("java/lang/Throwable", "detailMessage", "Ljava/lang/String;", false)
  | 4 => ("java/lang/Throwable", "backtrace", "Ljava/lang/Object;", false)
  | _ => ("java/lang/Throwable", "depth", "I", false)
def tyJ3 : Nat → FieldType := fun k => match k with
  | 0 => .object "java/lang/Throwable"
  | 1 => .array (.object "java/lang/StackTraceElement")
  | 2 => .object "java/util/List"
  | 3 => .object "java/lang/String"
  | 4 => .object "java/lang/Object"
  | _ => .int
abbrev wsJ30 : List Cond := u_ws RJ3 TJ3 6
theorem nmJ3 : ∀ a, a < 6 → ∀ b, b < 6 → a ≠ b → (TJ3 a).2.1 ≠ (TJ3 b).2.1 := by decide +kernel
theorem tyJ3_ok : ∀ k, k < 6 → parseFieldDescriptor (TJ3 k).2.2.1 = some (tyJ3 k) := by decide +kernel
abbrev cJ3_init : ByteArray := prog_8_method_1_code
def yJ3_init : MethodName := ⟨RJ3, "<init>", "()V"⟩
theorem dJ3_init_0 : decode cJ3_init 0 = .ok (.aload_n 0, 1) := by decide +kernel
theorem dJ3_init_1 : decode cJ3_init 1 = .ok (.invokespecial 1, 3) := by decide +kernel
theorem dJ3_init_4 : decode cJ3_init 4 = .ok (.return_, 1) := by decide +kernel
theorem q206 : (Jvm.Cond.initialized "java/lang/IllegalStateException") ∈ lw_all := lw_g (lw_at lw_m1 9 rfl) rfl
theorem q407 : (Jvm.Cond.instantiable "java/lang/IllegalStateException" (6 : Nat)) ∈ lw_all := lw_g (lw_at lw_m1 210 rfl) rfl
theorem q408 : (Jvm.Cond.castable "java/lang/IllegalStateException" "java/lang/IllegalStateException") ∈ lw_tbl := lw_at lw_m1 211 rfl
theorem q415 : (Jvm.Cond.selects "java/lang/IllegalStateException" ({ cls := "java/lang/Throwable", name := "fillInStackTrace", desc := "(I)Ljava/lang/Throwable;" } : Jvm.MethodName) ({ cls := "java/lang/Throwable", name := "fillInStackTrace", desc := "(I)Ljava/lang/Throwable;" } : Jvm.MethodName)) ∈ lw_all := lw_g (lw_at lw_m1 218 rfl) rfl
theorem q416 : (Jvm.Cond.selects "java/lang/IllegalStateException" ({ cls := "java/lang/Throwable", name := "fillInStackTrace", desc := "()Ljava/lang/Throwable;" } : Jvm.MethodName) ({ cls := "java/lang/Throwable", name := "fillInStackTrace", desc := "()Ljava/lang/Throwable;" } : Jvm.MethodName)) ∈ lw_all := lw_g (lw_at lw_m1 219 rfl) rfl
theorem q417 : (Jvm.Cond.lays "java/lang/IllegalStateException" "java/lang/Throwable" "cause" "Ljava/lang/Throwable;") ∈ lw_all := lw_g (lw_at lw_m1 220 rfl) rfl
theorem q419 : (Jvm.Cond.lays "java/lang/IllegalStateException" "java/lang/Throwable" "stackTrace" "[Ljava/lang/StackTraceElement;") ∈ lw_all := lw_g (lw_at lw_m1 222 rfl) rfl
theorem q421 : (Jvm.Cond.lays "java/lang/IllegalStateException" "java/lang/Throwable" "suppressedExceptions" "Ljava/util/List;") ∈ lw_all := lw_g (lw_at lw_m1 224 rfl) rfl
theorem q423 : (Jvm.Cond.lays "java/lang/IllegalStateException" "java/lang/Throwable" "detailMessage" "Ljava/lang/String;") ∈ lw_all := lw_g (lw_at lw_m1 226 rfl) rfl
theorem q425 : (Jvm.Cond.lays "java/lang/IllegalStateException" "java/lang/Throwable" "backtrace" "Ljava/lang/Object;") ∈ lw_all := lw_g (lw_at lw_m1 228 rfl) rfl
theorem q446 : (Jvm.Cond.instanceMethod ({ cls := "java/lang/IllegalStateException", name := "<init>", desc := "()V" } : Jvm.MethodName)) ∈ lw_all := lw_g (lw_at lw_m2 9 rfl) rfl
theorem q447 : (Jvm.Cond.code ({ cls := "java/lang/IllegalStateException", name := "<init>", desc := "()V" } : Jvm.MethodName) prog_8_method_1_code (1 : Nat) (Option.none : Option Jvm.ClassFile.FieldType)) ∈ lw_all := lw_g (lw_at lw_m2 10 rfl) rfl
theorem q448 : (Jvm.Cond.methodLink "java/lang/IllegalStateException" (1 : Nat) ({ cls := "java/lang/RuntimeException", name := "<init>", desc := "()V" } : Jvm.MethodName)) ∈ lw_all := lw_g (lw_at lw_m2 11 rfl) rfl
theorem q463 : (Jvm.Cond.lays "java/lang/IllegalStateException" "java/lang/Throwable" "depth" "I") ∈ lw_all := lw_g (lw_at lw_m2 26 rfl) rfl
theorem q466 : (Jvm.Cond.superclass "java/lang/IllegalStateException" "java/lang/RuntimeException") ∈ lw_all := lw_g (lw_at lw_m2 29 rfl) rfl
theorem in_J3 : ∀ w ∈ wsJ30, w ∈ lw_all := lw_in wsJ30 [417, 419, 421, 423, 425, 463] (by decide +kernel) (by decide +kernel)

/-! java/lang/Object -/
def RJ4 : String := "java/lang/Object"
abbrev cJ4_init : ByteArray := object_method_1_code
def yJ4_init : MethodName := ⟨RJ4, "<init>", "()V"⟩
theorem dJ4_init_0 : decode cJ4_init 0 = .ok (.return_, 1) := by decide +kernel
theorem q214 : (Jvm.Cond.instanceMethod ({ cls := "java/lang/Object", name := "<init>", desc := "()V" } : Jvm.MethodName)) ∈ lw_all := lw_g (lw_at lw_m1 17 rfl) rfl
theorem q215 : (Jvm.Cond.code ({ cls := "java/lang/Object", name := "<init>", desc := "()V" } : Jvm.MethodName) object_method_1_code (1 : Nat) (Option.none : Option Jvm.ClassFile.FieldType)) ∈ lw_all := lw_g (lw_at lw_m1 18 rfl) rfl

/-! CoreSyntax -/
def RX0 : String := "CoreSyntax"
def TX0 : u_T := fun k => match k with
  | _ => ("CoreSyntax", "syntax", "LCoreSyntax$Syntax;", true)
def tyX0 : Nat → FieldType := fun k => match k with
  | _ => .object "CoreSyntax$Syntax"
abbrev wsX00 : List Cond := u_ws RX0 TX0 1
theorem nmX0 : ∀ a, a < 1 → ∀ b, b < 1 → a ≠ b → (TX0 a).2.1 ≠ (TX0 b).2.1 := by decide +kernel
theorem tyX0_ok : ∀ k, k < 1 → parseFieldDescriptor (TX0 k).2.2.1 = some (tyX0 k) := by decide +kernel
abbrev cX0_init : ByteArray := prog_1_method_1_code
def yX0_init : MethodName := ⟨RX0, "<init>", "()V"⟩
theorem dX0_init_0 : decode cX0_init 0 = .ok (.aload_n 0, 1) := by decide +kernel
theorem dX0_init_1 : decode cX0_init 1 = .ok (.invokespecial 1, 3) := by decide +kernel
theorem dX0_init_4 : decode cX0_init 4 = .ok (.aload_n 0, 1) := by decide +kernel
theorem dX0_init_5 : decode cX0_init 5 = .ok (.new 7, 3) := by decide +kernel
theorem dX0_init_8 : decode cX0_init 8 = .ok (.dup, 1) := by decide +kernel
theorem dX0_init_9 : decode cX0_init 9 = .ok (.invokespecial 9, 3) := by decide +kernel
theorem dX0_init_12 : decode cX0_init 12 = .ok (.putfield 10, 3) := by decide +kernel
theorem dX0_init_15 : decode cX0_init 15 = .ok (.return_, 1) := by decide +kernel
abbrev cX0_token : ByteArray := prog_1_method_2_code
def yX0_token : MethodName := ⟨RX0, "token", "(III)I"⟩
theorem dX0_token_0 : decode cX0_token 0 = .ok (.aload_n 0, 1) := by decide +kernel
theorem dX0_token_1 : decode cX0_token 1 = .ok (.getfield 10, 3) := by decide +kernel
theorem dX0_token_4 : decode cX0_token 4 = .ok (.iload_n 1, 1) := by decide +kernel
theorem dX0_token_5 : decode cX0_token 5 = .ok (.iload_n 2, 1) := by decide +kernel
theorem dX0_token_6 : decode cX0_token 6 = .ok (.iload_n 3, 1) := by decide +kernel
theorem dX0_token_7 : decode cX0_token 7 = .ok (.invokevirtual 16, 3) := by decide +kernel
theorem dX0_token_10 : decode cX0_token 10 = .ok (.ifCond .ne 5, 3) := by decide +kernel
theorem dX0_token_13 : decode cX0_token 13 = .ok (.iconst (-1), 1) := by decide +kernel
theorem dX0_token_14 : decode cX0_token 14 = .ok (.ireturn, 1) := by decide +kernel
theorem dX0_token_15 : decode cX0_token 15 = .ok (.aload_n 0, 1) := by decide +kernel
theorem dX0_token_16 : decode cX0_token 16 = .ok (.getfield 10, 3) := by decide +kernel
theorem dX0_token_19 : decode cX0_token 19 = .ok (.invokevirtual 20, 3) := by decide +kernel
theorem dX0_token_22 : decode cX0_token 22 = .ok (.ifCond .eq 6, 3) := by decide +kernel
theorem dX0_token_25 : decode cX0_token 25 = .ok (.bipush (-2), 2) := by decide +kernel
theorem dX0_token_27 : decode cX0_token 27 = .ok (.ireturn, 1) := by decide +kernel
theorem dX0_token_28 : decode cX0_token 28 = .ok (.aload_n 0, 1) := by decide +kernel
theorem dX0_token_29 : decode cX0_token 29 = .ok (.getfield 10, 3) := by decide +kernel
theorem dX0_token_32 : decode cX0_token 32 = .ok (.iload_n 1, 1) := by decide +kernel
theorem dX0_token_33 : decode cX0_token 33 = .ok (.iload_n 2, 1) := by decide +kernel
theorem dX0_token_34 : decode cX0_token 34 = .ok (.iload_n 3, 1) := by decide +kernel
theorem dX0_token_35 : decode cX0_token 35 = .ok (.invokevirtual 24, 3) := by decide +kernel
theorem dX0_token_38 : decode cX0_token 38 = .ok (.aload_n 0, 1) := by decide +kernel
theorem dX0_token_39 : decode cX0_token 39 = .ok (.getfield 10, 3) := by decide +kernel
theorem dX0_token_42 : decode cX0_token 42 = .ok (.getfield 28, 3) := by decide +kernel
theorem dX0_token_45 : decode cX0_token 45 = .ok (.getfield 32, 3) := by decide +kernel
theorem dX0_token_48 : decode cX0_token 48 = .ok (.ireturn, 1) := by decide +kernel
abbrev cX0_clear : ByteArray := prog_1_method_3_code
def yX0_clear : MethodName := ⟨RX0, "clear", "()I"⟩
theorem dX0_clear_0 : decode cX0_clear 0 = .ok (.aload_n 0, 1) := by decide +kernel
theorem dX0_clear_1 : decode cX0_clear 1 = .ok (.getfield 10, 3) := by decide +kernel
theorem dX0_clear_4 : decode cX0_clear 4 = .ok (.invokevirtual 38, 3) := by decide +kernel
theorem dX0_clear_7 : decode cX0_clear 7 = .ok (.ireturn, 1) := by decide +kernel
abbrev cX0_parse : ByteArray := prog_1_method_4_code
def yX0_parse : MethodName := ⟨RX0, "parse", "()I"⟩
theorem dX0_parse_0 : decode cX0_parse 0 = .ok (.aload_n 0, 1) := by decide +kernel
theorem dX0_parse_1 : decode cX0_parse 1 = .ok (.getfield 10, 3) := by decide +kernel
theorem dX0_parse_4 : decode cX0_parse 4 = .ok (.invokevirtual 42, 3) := by decide +kernel
theorem dX0_parse_7 : decode cX0_parse 7 = .ok (.ifCond .eq 13, 3) := by decide +kernel
theorem dX0_parse_10 : decode cX0_parse 10 = .ok (.aload_n 0, 1) := by decide +kernel
theorem dX0_parse_11 : decode cX0_parse 11 = .ok (.getfield 10, 3) := by decide +kernel
theorem dX0_parse_14 : decode cX0_parse 14 = .ok (.invokevirtual 45, 3) := by decide +kernel
theorem dX0_parse_17 : decode cX0_parse 17 = .ok (.goto 4, 3) := by decide +kernel
theorem dX0_parse_20 : decode cX0_parse 20 = .ok (.iconst (-1), 1) := by decide +kernel
theorem dX0_parse_21 : decode cX0_parse 21 = .ok (.ireturn, 1) := by decide +kernel
abbrev cX0_fault : ByteArray := prog_1_method_5_code
def yX0_fault : MethodName := ⟨RX0, "fault", "(I)I"⟩
theorem dX0_fault_0 : decode cX0_fault 0 = .ok (.iload_n 1, 1) := by decide +kernel
theorem dX0_fault_1 : decode cX0_fault 1 = .ok (.ifCond .ne 13, 3) := by decide +kernel
theorem dX0_fault_4 : decode cX0_fault 4 = .ok (.aload_n 0, 1) := by decide +kernel
theorem dX0_fault_5 : decode cX0_fault 5 = .ok (.getfield 10, 3) := by decide +kernel
theorem dX0_fault_8 : decode cX0_fault 8 = .ok (.getfield 48, 3) := by decide +kernel
theorem dX0_fault_11 : decode cX0_fault 11 = .ok (.goto 19, 3) := by decide +kernel
theorem dX0_fault_14 : decode cX0_fault 14 = .ok (.iload_n 1, 1) := by decide +kernel
theorem dX0_fault_15 : decode cX0_fault 15 = .ok (.iconst 1, 1) := by decide +kernel
theorem dX0_fault_16 : decode cX0_fault 16 = .ok (.if_icmp .ne 13, 3) := by decide +kernel
theorem dX0_fault_19 : decode cX0_fault 19 = .ok (.aload_n 0, 1) := by decide +kernel
theorem dX0_fault_20 : decode cX0_fault 20 = .ok (.getfield 10, 3) := by decide +kernel
theorem dX0_fault_23 : decode cX0_fault 23 = .ok (.getfield 51, 3) := by decide +kernel
theorem dX0_fault_26 : decode cX0_fault 26 = .ok (.goto 4, 3) := by decide +kernel
theorem dX0_fault_29 : decode cX0_fault 29 = .ok (.iconst (-1), 1) := by decide +kernel
theorem dX0_fault_30 : decode cX0_fault 30 = .ok (.ireturn, 1) := by decide +kernel
abbrev cX0_retreat : ByteArray := prog_1_method_6_code
def yX0_retreat : MethodName := ⟨RX0, "retreat", "()Z"⟩
theorem dX0_retreat_0 : decode cX0_retreat 0 = .ok (.aload_n 0, 1) := by decide +kernel
theorem dX0_retreat_1 : decode cX0_retreat 1 = .ok (.getfield 10, 3) := by decide +kernel
theorem dX0_retreat_4 : decode cX0_retreat 4 = .ok (.invokevirtual 54, 3) := by decide +kernel
theorem dX0_retreat_7 : decode cX0_retreat 7 = .ok (.ireturn, 1) := by decide +kernel
abbrev cX0_fixity : ByteArray := prog_1_method_7_code
def yX0_fixity : MethodName := ⟨RX0, "fixity", "(I)I"⟩
theorem dX0_fixity_0 : decode cX0_fixity 0 = .ok (.iload_n 1, 1) := by decide +kernel
theorem dX0_fixity_1 : decode cX0_fixity 1 = .ok (.ifCond .lt 10, 3) := by decide +kernel
theorem dX0_fixity_4 : decode cX0_fixity 4 = .ok (.iload_n 1, 1) := by decide +kernel
theorem dX0_fixity_5 : decode cX0_fixity 5 = .ok (.sipush 8192, 3) := by decide +kernel
theorem dX0_fixity_8 : decode cX0_fixity 8 = .ok (.if_icmp .lt 7, 3) := by decide +kernel
theorem dX0_fixity_11 : decode cX0_fixity 11 = .ok (.iconst (-1), 1) := by decide +kernel
theorem dX0_fixity_12 : decode cX0_fixity 12 = .ok (.goto 14, 3) := by decide +kernel
theorem dX0_fixity_15 : decode cX0_fixity 15 = .ok (.aload_n 0, 1) := by decide +kernel
theorem dX0_fixity_16 : decode cX0_fixity 16 = .ok (.getfield 10, 3) := by decide +kernel
theorem dX0_fixity_19 : decode cX0_fixity 19 = .ok (.getfield 57, 3) := by decide +kernel
theorem dX0_fixity_22 : decode cX0_fixity 22 = .ok (.iload_n 1, 1) := by decide +kernel
theorem dX0_fixity_23 : decode cX0_fixity 23 = .ok (.baload, 1) := by decide +kernel
theorem dX0_fixity_24 : decode cX0_fixity 24 = .ok (.iconst 1, 1) := by decide +kernel
theorem dX0_fixity_25 : decode cX0_fixity 25 = .ok (.isub, 1) := by decide +kernel
theorem dX0_fixity_26 : decode cX0_fixity 26 = .ok (.ireturn, 1) := by decide +kernel
abbrev cX0_tokens : ByteArray := prog_1_method_8_code
def yX0_tokens : MethodName := ⟨RX0, "tokens", "()I"⟩
theorem dX0_tokens_0 : decode cX0_tokens 0 = .ok (.aload_n 0, 1) := by decide +kernel
theorem dX0_tokens_1 : decode cX0_tokens 1 = .ok (.getfield 10, 3) := by decide +kernel
theorem dX0_tokens_4 : decode cX0_tokens 4 = .ok (.getfield 28, 3) := by decide +kernel
theorem dX0_tokens_7 : decode cX0_tokens 7 = .ok (.getfield 32, 3) := by decide +kernel
theorem dX0_tokens_10 : decode cX0_tokens 10 = .ok (.ireturn, 1) := by decide +kernel
abbrev cX0_nodes : ByteArray := prog_1_method_9_code
def yX0_nodes : MethodName := ⟨RX0, "nodes", "()I"⟩
theorem dX0_nodes_0 : decode cX0_nodes 0 = .ok (.aload_n 0, 1) := by decide +kernel
theorem dX0_nodes_1 : decode cX0_nodes 1 = .ok (.getfield 10, 3) := by decide +kernel
theorem dX0_nodes_4 : decode cX0_nodes 4 = .ok (.invokevirtual 45, 3) := by decide +kernel
theorem dX0_nodes_7 : decode cX0_nodes 7 = .ok (.ireturn, 1) := by decide +kernel
abbrev cX0_node : ByteArray := prog_1_method_10_code
def yX0_node : MethodName := ⟨RX0, "node", "(II)I"⟩
theorem dX0_node_0 : decode cX0_node 0 = .ok (.aload_n 0, 1) := by decide +kernel
theorem dX0_node_1 : decode cX0_node 1 = .ok (.getfield 10, 3) := by decide +kernel
theorem dX0_node_4 : decode cX0_node 4 = .ok (.iload_n 1, 1) := by decide +kernel
theorem dX0_node_5 : decode cX0_node 5 = .ok (.invokevirtual 61, 3) := by decide +kernel
theorem dX0_node_8 : decode cX0_node 8 = .ok (.ifCond .eq 24, 3) := by decide +kernel
theorem dX0_node_11 : decode cX0_node 11 = .ok (.iload_n 2, 1) := by decide +kernel
theorem dX0_node_12 : decode cX0_node 12 = .ok (.ifCond .lt 20, 3) := by decide +kernel
theorem dX0_node_15 : decode cX0_node 15 = .ok (.iload_n 2, 1) := by decide +kernel
theorem dX0_node_16 : decode cX0_node 16 = .ok (.iconst 4, 1) := by decide +kernel
theorem dX0_node_17 : decode cX0_node 17 = .ok (.if_icmp .gt 15, 3) := by decide +kernel
theorem dX0_node_20 : decode cX0_node 20 = .ok (.aload_n 0, 1) := by decide +kernel
theorem dX0_node_21 : decode cX0_node 21 = .ok (.getfield 10, 3) := by decide +kernel
theorem dX0_node_24 : decode cX0_node 24 = .ok (.iload_n 1, 1) := by decide +kernel
theorem dX0_node_25 : decode cX0_node 25 = .ok (.iload_n 2, 1) := by decide +kernel
theorem dX0_node_26 : decode cX0_node 26 = .ok (.invokevirtual 65, 3) := by decide +kernel
theorem dX0_node_29 : decode cX0_node 29 = .ok (.goto 4, 3) := by decide +kernel
theorem dX0_node_32 : decode cX0_node 32 = .ok (.iconst (-1), 1) := by decide +kernel
theorem dX0_node_33 : decode cX0_node 33 = .ok (.ireturn, 1) := by decide +kernel
abbrev cX0_length : ByteArray := prog_1_method_12_code
def yX0_length : MethodName := ⟨RX0, "length", "(I)I"⟩
theorem dX0_length_0 : decode cX0_length 0 = .ok (.iconst 0, 1) := by decide +kernel
theorem dX0_length_1 : decode cX0_length 1 = .ok (.istore_n 2, 1) := by decide +kernel
theorem dX0_length_2 : decode cX0_length 2 = .ok (.iload_n 1, 1) := by decide +kernel
theorem dX0_length_3 : decode cX0_length 3 = .ok (.istore_n 3, 1) := by decide +kernel
theorem dX0_length_4 : decode cX0_length 4 = .ok (.aload_n 0, 1) := by decide +kernel
theorem dX0_length_5 : decode cX0_length 5 = .ok (.iload_n 3, 1) := by decide +kernel
theorem dX0_length_6 : decode cX0_length 6 = .ok (.invokevirtual 69, 3) := by decide +kernel
theorem dX0_length_9 : decode cX0_length 9 = .ok (.ifCond .eq 19, 3) := by decide +kernel
theorem dX0_length_12 : decode cX0_length 12 = .ok (.iinc 2 1, 3) := by decide +kernel
theorem dX0_length_15 : decode cX0_length 15 = .ok (.aload_n 0, 1) := by decide +kernel
theorem dX0_length_16 : decode cX0_length 16 = .ok (.getfield 10, 3) := by decide +kernel
theorem dX0_length_19 : decode cX0_length 19 = .ok (.iload_n 3, 1) := by decide +kernel
theorem dX0_length_20 : decode cX0_length 20 = .ok (.iconst 2, 1) := by decide +kernel
theorem dX0_length_21 : decode cX0_length 21 = .ok (.invokevirtual 65, 3) := by decide +kernel
theorem dX0_length_24 : decode cX0_length 24 = .ok (.istore_n 3, 1) := by decide +kernel
theorem dX0_length_25 : decode cX0_length 25 = .ok (.goto (-21), 3) := by decide +kernel
theorem dX0_length_28 : decode cX0_length 28 = .ok (.iload_n 2, 1) := by decide +kernel
theorem dX0_length_29 : decode cX0_length 29 = .ok (.ireturn, 1) := by decide +kernel
abbrev cX0_isList : ByteArray := prog_1_method_11_code
def yX0_isList : MethodName := ⟨RX0, "isList", "(I)Z"⟩
theorem dX0_isList_0 : decode cX0_isList 0 = .ok (.aload_n 0, 1) := by decide +kernel
theorem dX0_isList_1 : decode cX0_isList 1 = .ok (.getfield 10, 3) := by decide +kernel
theorem dX0_isList_4 : decode cX0_isList 4 = .ok (.iload_n 1, 1) := by decide +kernel
theorem dX0_isList_5 : decode cX0_isList 5 = .ok (.invokevirtual 61, 3) := by decide +kernel
theorem dX0_isList_8 : decode cX0_isList 8 = .ok (.ifCond .eq 20, 3) := by decide +kernel
theorem dX0_isList_11 : decode cX0_isList 11 = .ok (.aload_n 0, 1) := by decide +kernel
theorem dX0_isList_12 : decode cX0_isList 12 = .ok (.getfield 10, 3) := by decide +kernel
theorem dX0_isList_15 : decode cX0_isList 15 = .ok (.iload_n 1, 1) := by decide +kernel
theorem dX0_isList_16 : decode cX0_isList 16 = .ok (.iconst 0, 1) := by decide +kernel
theorem dX0_isList_17 : decode cX0_isList 17 = .ok (.invokevirtual 65, 3) := by decide +kernel
theorem dX0_isList_20 : decode cX0_isList 20 = .ok (.iconst 1, 1) := by decide +kernel
theorem dX0_isList_21 : decode cX0_isList 21 = .ok (.if_icmp .ne 7, 3) := by decide +kernel
theorem dX0_isList_24 : decode cX0_isList 24 = .ok (.iconst 1, 1) := by decide +kernel
theorem dX0_isList_25 : decode cX0_isList 25 = .ok (.goto 4, 3) := by decide +kernel
theorem dX0_isList_28 : decode cX0_isList 28 = .ok (.iconst 0, 1) := by decide +kernel
theorem dX0_isList_29 : decode cX0_isList 29 = .ok (.ireturn, 1) := by decide +kernel
abbrev cX0_item : ByteArray := prog_1_method_13_code
def yX0_item : MethodName := ⟨RX0, "item", "(II)I"⟩
theorem dX0_item_0 : decode cX0_item 0 = .ok (.iload_n 1, 1) := by decide +kernel
theorem dX0_item_1 : decode cX0_item 1 = .ok (.istore_n 3, 1) := by decide +kernel
theorem dX0_item_2 : decode cX0_item 2 = .ok (.iconst 0, 1) := by decide +kernel
theorem dX0_item_3 : decode cX0_item 3 = .ok (.istore 4, 2) := by decide +kernel
theorem dX0_item_5 : decode cX0_item 5 = .ok (.iload 4, 2) := by decide +kernel
theorem dX0_item_7 : decode cX0_item 7 = .ok (.iload_n 2, 1) := by decide +kernel
theorem dX0_item_8 : decode cX0_item 8 = .ok (.if_icmp .ge 27, 3) := by decide +kernel
theorem dX0_item_11 : decode cX0_item 11 = .ok (.aload_n 0, 1) := by decide +kernel
theorem dX0_item_12 : decode cX0_item 12 = .ok (.iload_n 3, 1) := by decide +kernel
theorem dX0_item_13 : decode cX0_item 13 = .ok (.invokevirtual 69, 3) := by decide +kernel
theorem dX0_item_16 : decode cX0_item 16 = .ok (.ifCond .eq 19, 3) := by decide +kernel
theorem dX0_item_19 : decode cX0_item 19 = .ok (.aload_n 0, 1) := by decide +kernel
theorem dX0_item_20 : decode cX0_item 20 = .ok (.getfield 10, 3) := by decide +kernel
theorem dX0_item_23 : decode cX0_item 23 = .ok (.iload_n 3, 1) := by decide +kernel
theorem dX0_item_24 : decode cX0_item 24 = .ok (.iconst 2, 1) := by decide +kernel
theorem dX0_item_25 : decode cX0_item 25 = .ok (.invokevirtual 65, 3) := by decide +kernel
theorem dX0_item_28 : decode cX0_item 28 = .ok (.istore_n 3, 1) := by decide +kernel
theorem dX0_item_29 : decode cX0_item 29 = .ok (.iinc 4 1, 3) := by decide +kernel
theorem dX0_item_32 : decode cX0_item 32 = .ok (.goto (-27), 3) := by decide +kernel
theorem dX0_item_35 : decode cX0_item 35 = .ok (.iload_n 2, 1) := by decide +kernel
theorem dX0_item_36 : decode cX0_item 36 = .ok (.ifCond .lt 23, 3) := by decide +kernel
theorem dX0_item_39 : decode cX0_item 39 = .ok (.aload_n 0, 1) := by decide +kernel
theorem dX0_item_40 : decode cX0_item 40 = .ok (.iload_n 3, 1) := by decide +kernel
theorem dX0_item_41 : decode cX0_item 41 = .ok (.invokevirtual 69, 3) := by decide +kernel
theorem dX0_item_44 : decode cX0_item 44 = .ok (.ifCond .eq 15, 3) := by decide +kernel
theorem dX0_item_47 : decode cX0_item 47 = .ok (.aload_n 0, 1) := by decide +kernel
theorem dX0_item_48 : decode cX0_item 48 = .ok (.getfield 10, 3) := by decide +kernel
theorem dX0_item_51 : decode cX0_item 51 = .ok (.iload_n 3, 1) := by decide +kernel
theorem dX0_item_52 : decode cX0_item 52 = .ok (.iconst 1, 1) := by decide +kernel
theorem dX0_item_53 : decode cX0_item 53 = .ok (.invokevirtual 65, 3) := by decide +kernel
theorem dX0_item_56 : decode cX0_item 56 = .ok (.goto 4, 3) := by decide +kernel
theorem dX0_item_59 : decode cX0_item 59 = .ok (.iconst (-1), 1) := by decide +kernel
theorem dX0_item_60 : decode cX0_item 60 = .ok (.ireturn, 1) := by decide +kernel
abbrev cX0_behind : ByteArray := prog_1_method_14_code
def yX0_behind : MethodName := ⟨RX0, "behind", "(I)I"⟩
theorem dX0_behind_0 : decode cX0_behind 0 = .ok (.aload_n 0, 1) := by decide +kernel
theorem dX0_behind_1 : decode cX0_behind 1 = .ok (.getfield 10, 3) := by decide +kernel
theorem dX0_behind_4 : decode cX0_behind 4 = .ok (.iload_n 1, 1) := by decide +kernel
theorem dX0_behind_5 : decode cX0_behind 5 = .ok (.invokevirtual 61, 3) := by decide +kernel
theorem dX0_behind_8 : decode cX0_behind 8 = .ok (.ifCond .eq 14, 3) := by decide +kernel
theorem dX0_behind_11 : decode cX0_behind 11 = .ok (.aload_n 0, 1) := by decide +kernel
theorem dX0_behind_12 : decode cX0_behind 12 = .ok (.getfield 10, 3) := by decide +kernel
theorem dX0_behind_15 : decode cX0_behind 15 = .ok (.iload_n 1, 1) := by decide +kernel
theorem dX0_behind_16 : decode cX0_behind 16 = .ok (.invokevirtual 72, 3) := by decide +kernel
theorem dX0_behind_19 : decode cX0_behind 19 = .ok (.goto 4, 3) := by decide +kernel
theorem dX0_behind_22 : decode cX0_behind 22 = .ok (.iconst (-1), 1) := by decide +kernel
theorem dX0_behind_23 : decode cX0_behind 23 = .ok (.ireturn, 1) := by decide +kernel
abbrev cX0_same : ByteArray := prog_1_method_15_code
def yX0_same : MethodName := ⟨RX0, "same", "(II)Z"⟩
theorem dX0_same_0 : decode cX0_same 0 = .ok (.aload_n 0, 1) := by decide +kernel
theorem dX0_same_1 : decode cX0_same 1 = .ok (.getfield 10, 3) := by decide +kernel
theorem dX0_same_4 : decode cX0_same 4 = .ok (.iload_n 1, 1) := by decide +kernel
theorem dX0_same_5 : decode cX0_same 5 = .ok (.invokevirtual 61, 3) := by decide +kernel
theorem dX0_same_8 : decode cX0_same 8 = .ok (.ifCond .eq 30, 3) := by decide +kernel
theorem dX0_same_11 : decode cX0_same 11 = .ok (.aload_n 0, 1) := by decide +kernel
theorem dX0_same_12 : decode cX0_same 12 = .ok (.getfield 10, 3) := by decide +kernel
theorem dX0_same_15 : decode cX0_same 15 = .ok (.iload_n 2, 1) := by decide +kernel
theorem dX0_same_16 : decode cX0_same 16 = .ok (.invokevirtual 61, 3) := by decide +kernel
theorem dX0_same_19 : decode cX0_same 19 = .ok (.ifCond .eq 19, 3) := by decide +kernel
theorem dX0_same_22 : decode cX0_same 22 = .ok (.aload_n 0, 1) := by decide +kernel
theorem dX0_same_23 : decode cX0_same 23 = .ok (.getfield 10, 3) := by decide +kernel
theorem dX0_same_26 : decode cX0_same 26 = .ok (.iload_n 1, 1) := by decide +kernel
theorem dX0_same_27 : decode cX0_same 27 = .ok (.iload_n 2, 1) := by decide +kernel
theorem dX0_same_28 : decode cX0_same 28 = .ok (.invokevirtual 76, 3) := by decide +kernel
theorem dX0_same_31 : decode cX0_same 31 = .ok (.ifCond .eq 7, 3) := by decide +kernel
theorem dX0_same_34 : decode cX0_same 34 = .ok (.iconst 1, 1) := by decide +kernel
theorem dX0_same_35 : decode cX0_same 35 = .ok (.goto 4, 3) := by decide +kernel
theorem dX0_same_38 : decode cX0_same 38 = .ok (.iconst 0, 1) := by decide +kernel
theorem dX0_same_39 : decode cX0_same 39 = .ok (.ireturn, 1) := by decide +kernel
abbrev cX0_fresh : ByteArray := prog_1_method_16_code
def yX0_fresh : MethodName := ⟨RX0, "fresh", "()I"⟩
theorem dX0_fresh_0 : decode cX0_fresh 0 = .ok (.aload_n 0, 1) := by decide +kernel
theorem dX0_fresh_1 : decode cX0_fresh 1 = .ok (.getfield 10, 3) := by decide +kernel
theorem dX0_fresh_4 : decode cX0_fresh 4 = .ok (.getfield 80, 3) := by decide +kernel
theorem dX0_fresh_7 : decode cX0_fresh 7 = .ok (.ireturn, 1) := by decide +kernel
theorem q198 : (Jvm.Cond.initialized "CoreSyntax") ∈ lw_all := lw_g (lw_at lw_m1 1 rfl) rfl
theorem q209 : (Jvm.Cond.instantiable "CoreSyntax" (1 : Nat)) ∈ lw_all := lw_g (lw_at lw_m1 12 rfl) rfl
theorem q211 : (Jvm.Cond.instanceMethod ({ cls := "CoreSyntax", name := "<init>", desc := "()V" } : Jvm.MethodName)) ∈ lw_all := lw_g (lw_at lw_m1 14 rfl) rfl
theorem q212 : (Jvm.Cond.code ({ cls := "CoreSyntax", name := "<init>", desc := "()V" } : Jvm.MethodName) prog_1_method_1_code (1 : Nat) (Option.none : Option Jvm.ClassFile.FieldType)) ∈ lw_all := lw_g (lw_at lw_m1 15 rfl) rfl
theorem q213 : (Jvm.Cond.methodLink "CoreSyntax" (1 : Nat) ({ cls := "java/lang/Object", name := "<init>", desc := "()V" } : Jvm.MethodName)) ∈ lw_all := lw_g (lw_at lw_m1 16 rfl) rfl
theorem q216 : (Jvm.Cond.classLink "CoreSyntax" (7 : Nat) "CoreSyntax$Syntax") ∈ lw_all := lw_g (lw_at lw_m1 19 rfl) rfl
theorem q218 : (Jvm.Cond.methodLink "CoreSyntax" (9 : Nat) ({ cls := "CoreSyntax$Syntax", name := "<init>", desc := "()V" } : Jvm.MethodName)) ∈ lw_all := lw_g (lw_at lw_m1 21 rfl) rfl
theorem q231 : (Jvm.Cond.fieldLinkNest "CoreSyntax" (32 : Nat) "CoreSyntax$Row" "size" "I" "CoreSyntax") ∈ lw_tbl := lw_at lw_m1 34 rfl
theorem q244 : (Jvm.Cond.fieldLinkNest "CoreSyntax" (28 : Nat) "CoreSyntax$Syntax" "kinds" "LCoreSyntax$Row;" "CoreSyntax") ∈ lw_tbl := lw_at lw_m1 47 rfl
theorem q255 : (Jvm.Cond.fieldLinkNest "CoreSyntax" (57 : Nat) "CoreSyntax$Syntax" "fixities" "[B" "CoreSyntax") ∈ lw_tbl := lw_at lw_m1 58 rfl
theorem q263 : (Jvm.Cond.fieldLinkNest "CoreSyntax" (80 : Nat) "CoreSyntax$Syntax" "fresh" "I" "CoreSyntax") ∈ lw_tbl := lw_at lw_m1 66 rfl
theorem q265 : (Jvm.Cond.fieldLinkNest "CoreSyntax" (48 : Nat) "CoreSyntax$Syntax" "faultKind" "I" "CoreSyntax") ∈ lw_tbl := lw_at lw_m1 68 rfl
theorem q268 : (Jvm.Cond.fieldLinkNest "CoreSyntax" (51 : Nat) "CoreSyntax$Syntax" "faultAt" "I" "CoreSyntax") ∈ lw_tbl := lw_at lw_m1 71 rfl
theorem q319 : (Jvm.Cond.fieldLink "CoreSyntax" (10 : Nat) "CoreSyntax" "syntax" "LCoreSyntax$Syntax;") ∈ lw_all := lw_g (lw_at lw_m1 122 rfl) rfl
theorem q320 : (Jvm.Cond.laysFinal "CoreSyntax" "CoreSyntax" "syntax" "LCoreSyntax$Syntax;") ∈ lw_all := lw_g (lw_at lw_m1 123 rfl) rfl
theorem q321 : (Jvm.Cond.soleField "CoreSyntax" "syntax") ∈ lw_all := lw_g (lw_at lw_m1 124 rfl) rfl
theorem q322 : (Jvm.Cond.superclass "CoreSyntax" "java/lang/Object") ∈ lw_all := lw_g (lw_at lw_m1 125 rfl) rfl
theorem q324 : (Jvm.Cond.instanceMethod ({ cls := "CoreSyntax", name := "token", desc := "(III)I" } : Jvm.MethodName)) ∈ lw_all := lw_g (lw_at lw_m1 127 rfl) rfl
theorem q325 : (Jvm.Cond.selects "CoreSyntax" ({ cls := "CoreSyntax", name := "token", desc := "(III)I" } : Jvm.MethodName) ({ cls := "CoreSyntax", name := "token", desc := "(III)I" } : Jvm.MethodName)) ∈ lw_all := lw_g (lw_at lw_m1 128 rfl) rfl
theorem q326 : (Jvm.Cond.code ({ cls := "CoreSyntax", name := "token", desc := "(III)I" } : Jvm.MethodName) prog_1_method_2_code (4 : Nat) (Option.some Jvm.ClassFile.FieldType.int)) ∈ lw_all := lw_g (lw_at lw_m1 129 rfl) rfl
theorem q327 : (Jvm.Cond.methodLink "CoreSyntax" (16 : Nat) ({ cls := "CoreSyntax$Syntax", name := "isToken", desc := "(III)Z" } : Jvm.MethodName)) ∈ lw_all := lw_g (lw_at lw_m1 130 rfl) rfl
theorem q331 : (Jvm.Cond.methodLink "CoreSyntax" (20 : Nat) ({ cls := "CoreSyntax$Syntax", name := "isFull", desc := "()Z" } : Jvm.MethodName)) ∈ lw_all := lw_g (lw_at lw_m1 134 rfl) rfl
theorem q335 : (Jvm.Cond.methodLink "CoreSyntax" (24 : Nat) ({ cls := "CoreSyntax$Syntax", name := "add", desc := "(III)V" } : Jvm.MethodName)) ∈ lw_all := lw_g (lw_at lw_m1 138 rfl) rfl
theorem q347 : (Jvm.Cond.instanceMethod ({ cls := "CoreSyntax", name := "clear", desc := "()I" } : Jvm.MethodName)) ∈ lw_all := lw_g (lw_at lw_m1 150 rfl) rfl
theorem q348 : (Jvm.Cond.selects "CoreSyntax" ({ cls := "CoreSyntax", name := "clear", desc := "()I" } : Jvm.MethodName) ({ cls := "CoreSyntax", name := "clear", desc := "()I" } : Jvm.MethodName)) ∈ lw_all := lw_g (lw_at lw_m1 151 rfl) rfl
theorem q349 : (Jvm.Cond.code ({ cls := "CoreSyntax", name := "clear", desc := "()I" } : Jvm.MethodName) prog_1_method_3_code (1 : Nat) (Option.some Jvm.ClassFile.FieldType.int)) ∈ lw_all := lw_g (lw_at lw_m1 152 rfl) rfl
theorem q350 : (Jvm.Cond.methodLink "CoreSyntax" (38 : Nat) ({ cls := "CoreSyntax$Syntax", name := "clear", desc := "()I" } : Jvm.MethodName)) ∈ lw_all := lw_g (lw_at lw_m1 153 rfl) rfl
theorem q355 : (Jvm.Cond.instanceMethod ({ cls := "CoreSyntax", name := "parse", desc := "()I" } : Jvm.MethodName)) ∈ lw_all := lw_g (lw_at lw_m1 158 rfl) rfl
theorem q356 : (Jvm.Cond.selects "CoreSyntax" ({ cls := "CoreSyntax", name := "parse", desc := "()I" } : Jvm.MethodName) ({ cls := "CoreSyntax", name := "parse", desc := "()I" } : Jvm.MethodName)) ∈ lw_all := lw_g (lw_at lw_m1 159 rfl) rfl
theorem q357 : (Jvm.Cond.code ({ cls := "CoreSyntax", name := "parse", desc := "()I" } : Jvm.MethodName) prog_1_method_4_code (1 : Nat) (Option.some Jvm.ClassFile.FieldType.int)) ∈ lw_all := lw_g (lw_at lw_m1 160 rfl) rfl
theorem q358 : (Jvm.Cond.methodLink "CoreSyntax" (42 : Nat) ({ cls := "CoreSyntax$Syntax", name := "parse", desc := "()Z" } : Jvm.MethodName)) ∈ lw_all := lw_g (lw_at lw_m1 161 rfl) rfl
theorem q853 : (Jvm.Cond.methodLink "CoreSyntax" (45 : Nat) ({ cls := "CoreSyntax$Syntax", name := "nodes", desc := "()I" } : Jvm.MethodName)) ∈ lw_all := lw_g (lw_at lw_m3 176 rfl) rfl
theorem q858 : (Jvm.Cond.instanceMethod ({ cls := "CoreSyntax", name := "fault", desc := "(I)I" } : Jvm.MethodName)) ∈ lw_all := lw_g (lw_at lw_m3 181 rfl) rfl
theorem q859 : (Jvm.Cond.selects "CoreSyntax" ({ cls := "CoreSyntax", name := "fault", desc := "(I)I" } : Jvm.MethodName) ({ cls := "CoreSyntax", name := "fault", desc := "(I)I" } : Jvm.MethodName)) ∈ lw_all := lw_g (lw_at lw_m3 182 rfl) rfl
theorem q860 : (Jvm.Cond.code ({ cls := "CoreSyntax", name := "fault", desc := "(I)I" } : Jvm.MethodName) prog_1_method_5_code (2 : Nat) (Option.some Jvm.ClassFile.FieldType.int)) ∈ lw_all := lw_g (lw_at lw_m3 183 rfl) rfl
theorem q862 : (Jvm.Cond.instanceMethod ({ cls := "CoreSyntax", name := "retreat", desc := "()Z" } : Jvm.MethodName)) ∈ lw_all := lw_g (lw_at lw_m3 185 rfl) rfl
theorem q863 : (Jvm.Cond.selects "CoreSyntax" ({ cls := "CoreSyntax", name := "retreat", desc := "()Z" } : Jvm.MethodName) ({ cls := "CoreSyntax", name := "retreat", desc := "()Z" } : Jvm.MethodName)) ∈ lw_all := lw_g (lw_at lw_m3 186 rfl) rfl
theorem q864 : (Jvm.Cond.code ({ cls := "CoreSyntax", name := "retreat", desc := "()Z" } : Jvm.MethodName) prog_1_method_6_code (1 : Nat) (Option.some Jvm.ClassFile.FieldType.boolean)) ∈ lw_all := lw_g (lw_at lw_m3 187 rfl) rfl
theorem q865 : (Jvm.Cond.methodLink "CoreSyntax" (54 : Nat) ({ cls := "CoreSyntax$Syntax", name := "retreat", desc := "()Z" } : Jvm.MethodName)) ∈ lw_all := lw_g (lw_at lw_m3 188 rfl) rfl
theorem q870 : (Jvm.Cond.instanceMethod ({ cls := "CoreSyntax", name := "fixity", desc := "(I)I" } : Jvm.MethodName)) ∈ lw_all := lw_g (lw_at lw_m3 193 rfl) rfl
theorem q871 : (Jvm.Cond.selects "CoreSyntax" ({ cls := "CoreSyntax", name := "fixity", desc := "(I)I" } : Jvm.MethodName) ({ cls := "CoreSyntax", name := "fixity", desc := "(I)I" } : Jvm.MethodName)) ∈ lw_all := lw_g (lw_at lw_m3 194 rfl) rfl
theorem q872 : (Jvm.Cond.code ({ cls := "CoreSyntax", name := "fixity", desc := "(I)I" } : Jvm.MethodName) prog_1_method_7_code (2 : Nat) (Option.some Jvm.ClassFile.FieldType.int)) ∈ lw_all := lw_g (lw_at lw_m3 195 rfl) rfl
theorem q874 : (Jvm.Cond.instanceMethod ({ cls := "CoreSyntax", name := "tokens", desc := "()I" } : Jvm.MethodName)) ∈ lw_all := lw_g (lw_at lw_m3 197 rfl) rfl
theorem q875 : (Jvm.Cond.selects "CoreSyntax" ({ cls := "CoreSyntax", name := "tokens", desc := "()I" } : Jvm.MethodName) ({ cls := "CoreSyntax", name := "tokens", desc := "()I" } : Jvm.MethodName)) ∈ lw_all := lw_g (lw_at lw_m3 198 rfl) rfl
theorem q876 : (Jvm.Cond.code ({ cls := "CoreSyntax", name := "tokens", desc := "()I" } : Jvm.MethodName) prog_1_method_8_code (1 : Nat) (Option.some Jvm.ClassFile.FieldType.int)) ∈ lw_all := lw_g (lw_at lw_m3 199 rfl) rfl
theorem q878 : (Jvm.Cond.instanceMethod ({ cls := "CoreSyntax", name := "nodes", desc := "()I" } : Jvm.MethodName)) ∈ lw_all := lw_g (lw_at lw_m3 201 rfl) rfl
theorem q879 : (Jvm.Cond.selects "CoreSyntax" ({ cls := "CoreSyntax", name := "nodes", desc := "()I" } : Jvm.MethodName) ({ cls := "CoreSyntax", name := "nodes", desc := "()I" } : Jvm.MethodName)) ∈ lw_all := lw_g (lw_at lw_m3 202 rfl) rfl
theorem q880 : (Jvm.Cond.code ({ cls := "CoreSyntax", name := "nodes", desc := "()I" } : Jvm.MethodName) prog_1_method_9_code (1 : Nat) (Option.some Jvm.ClassFile.FieldType.int)) ∈ lw_all := lw_g (lw_at lw_m3 203 rfl) rfl
theorem q882 : (Jvm.Cond.instanceMethod ({ cls := "CoreSyntax", name := "node", desc := "(II)I" } : Jvm.MethodName)) ∈ lw_all := lw_g (lw_at lw_m3 205 rfl) rfl
theorem q883 : (Jvm.Cond.selects "CoreSyntax" ({ cls := "CoreSyntax", name := "node", desc := "(II)I" } : Jvm.MethodName) ({ cls := "CoreSyntax", name := "node", desc := "(II)I" } : Jvm.MethodName)) ∈ lw_all := lw_g (lw_at lw_m3 206 rfl) rfl
theorem q884 : (Jvm.Cond.code ({ cls := "CoreSyntax", name := "node", desc := "(II)I" } : Jvm.MethodName) prog_1_method_10_code (3 : Nat) (Option.some Jvm.ClassFile.FieldType.int)) ∈ lw_all := lw_g (lw_at lw_m3 207 rfl) rfl
theorem q885 : (Jvm.Cond.methodLink "CoreSyntax" (61 : Nat) ({ cls := "CoreSyntax$Syntax", name := "isNode", desc := "(I)Z" } : Jvm.MethodName)) ∈ lw_all := lw_g (lw_at lw_m3 208 rfl) rfl
theorem q889 : (Jvm.Cond.methodLink "CoreSyntax" (65 : Nat) ({ cls := "CoreSyntax$Syntax", name := "node", desc := "(II)I" } : Jvm.MethodName)) ∈ lw_all := lw_g (lw_at lw_m3 212 rfl) rfl
theorem q894 : (Jvm.Cond.instanceMethod ({ cls := "CoreSyntax", name := "length", desc := "(I)I" } : Jvm.MethodName)) ∈ lw_all := lw_g (lw_at lw_m3 217 rfl) rfl
theorem q895 : (Jvm.Cond.selects "CoreSyntax" ({ cls := "CoreSyntax", name := "length", desc := "(I)I" } : Jvm.MethodName) ({ cls := "CoreSyntax", name := "length", desc := "(I)I" } : Jvm.MethodName)) ∈ lw_all := lw_g (lw_at lw_m3 218 rfl) rfl
theorem q896 : (Jvm.Cond.code ({ cls := "CoreSyntax", name := "length", desc := "(I)I" } : Jvm.MethodName) prog_1_method_12_code (4 : Nat) (Option.some Jvm.ClassFile.FieldType.int)) ∈ lw_all := lw_g (lw_at lw_m3 219 rfl) rfl
theorem q897 : (Jvm.Cond.methodLink "CoreSyntax" (69 : Nat) ({ cls := "CoreSyntax", name := "isList", desc := "(I)Z" } : Jvm.MethodName)) ∈ lw_all := lw_g (lw_at lw_m3 220 rfl) rfl
theorem q898 : (Jvm.Cond.privateMethod ({ cls := "CoreSyntax", name := "isList", desc := "(I)Z" } : Jvm.MethodName)) ∈ lw_tbl := lw_at lw_m3 221 rfl
theorem q899 : (Jvm.Cond.instanceMethod ({ cls := "CoreSyntax", name := "isList", desc := "(I)Z" } : Jvm.MethodName)) ∈ lw_all := lw_g (lw_at lw_m3 222 rfl) rfl
theorem q900 : (Jvm.Cond.code ({ cls := "CoreSyntax", name := "isList", desc := "(I)Z" } : Jvm.MethodName) prog_1_method_11_code (2 : Nat) (Option.some Jvm.ClassFile.FieldType.boolean)) ∈ lw_all := lw_g (lw_at lw_m3 223 rfl) rfl
theorem q902 : (Jvm.Cond.instanceMethod ({ cls := "CoreSyntax", name := "item", desc := "(II)I" } : Jvm.MethodName)) ∈ lw_all := lw_g (lw_at lw_m3 225 rfl) rfl
theorem q903 : (Jvm.Cond.selects "CoreSyntax" ({ cls := "CoreSyntax", name := "item", desc := "(II)I" } : Jvm.MethodName) ({ cls := "CoreSyntax", name := "item", desc := "(II)I" } : Jvm.MethodName)) ∈ lw_all := lw_g (lw_at lw_m3 226 rfl) rfl
theorem q904 : (Jvm.Cond.code ({ cls := "CoreSyntax", name := "item", desc := "(II)I" } : Jvm.MethodName) prog_1_method_13_code (5 : Nat) (Option.some Jvm.ClassFile.FieldType.int)) ∈ lw_all := lw_g (lw_at lw_m3 227 rfl) rfl
theorem q906 : (Jvm.Cond.instanceMethod ({ cls := "CoreSyntax", name := "behind", desc := "(I)I" } : Jvm.MethodName)) ∈ lw_all := lw_g (lw_at lw_m3 229 rfl) rfl
theorem q907 : (Jvm.Cond.selects "CoreSyntax" ({ cls := "CoreSyntax", name := "behind", desc := "(I)I" } : Jvm.MethodName) ({ cls := "CoreSyntax", name := "behind", desc := "(I)I" } : Jvm.MethodName)) ∈ lw_all := lw_g (lw_at lw_m3 230 rfl) rfl
theorem q908 : (Jvm.Cond.code ({ cls := "CoreSyntax", name := "behind", desc := "(I)I" } : Jvm.MethodName) prog_1_method_14_code (2 : Nat) (Option.some Jvm.ClassFile.FieldType.int)) ∈ lw_all := lw_g (lw_at lw_m3 231 rfl) rfl
theorem q909 : (Jvm.Cond.methodLink "CoreSyntax" (72 : Nat) ({ cls := "CoreSyntax$Syntax", name := "behind", desc := "(I)I" } : Jvm.MethodName)) ∈ lw_all := lw_g (lw_at lw_m3 232 rfl) rfl
theorem q914 : (Jvm.Cond.instanceMethod ({ cls := "CoreSyntax", name := "same", desc := "(II)Z" } : Jvm.MethodName)) ∈ lw_all := lw_g (lw_at lw_m3 237 rfl) rfl
theorem q915 : (Jvm.Cond.selects "CoreSyntax" ({ cls := "CoreSyntax", name := "same", desc := "(II)Z" } : Jvm.MethodName) ({ cls := "CoreSyntax", name := "same", desc := "(II)Z" } : Jvm.MethodName)) ∈ lw_all := lw_g (lw_at lw_m3 238 rfl) rfl
theorem q916 : (Jvm.Cond.code ({ cls := "CoreSyntax", name := "same", desc := "(II)Z" } : Jvm.MethodName) prog_1_method_15_code (3 : Nat) (Option.some Jvm.ClassFile.FieldType.boolean)) ∈ lw_all := lw_g (lw_at lw_m3 239 rfl) rfl
theorem q917 : (Jvm.Cond.methodLink "CoreSyntax" (76 : Nat) ({ cls := "CoreSyntax$Syntax", name := "same", desc := "(II)Z" } : Jvm.MethodName)) ∈ lw_all := lw_g (lw_at lw_m4 0 rfl) rfl
theorem q923 : (Jvm.Cond.instanceMethod ({ cls := "CoreSyntax", name := "fresh", desc := "()I" } : Jvm.MethodName)) ∈ lw_all := lw_g (lw_at lw_m4 6 rfl) rfl
theorem q924 : (Jvm.Cond.selects "CoreSyntax" ({ cls := "CoreSyntax", name := "fresh", desc := "()I" } : Jvm.MethodName) ({ cls := "CoreSyntax", name := "fresh", desc := "()I" } : Jvm.MethodName)) ∈ lw_all := lw_g (lw_at lw_m4 7 rfl) rfl
theorem q925 : (Jvm.Cond.code ({ cls := "CoreSyntax", name := "fresh", desc := "()I" } : Jvm.MethodName) prog_1_method_16_code (1 : Nat) (Option.some Jvm.ClassFile.FieldType.int)) ∈ lw_all := lw_g (lw_at lw_m4 8 rfl) rfl
theorem in_X0 : ∀ w ∈ wsX00, w ∈ lw_all := lw_in wsX00 [320] (by decide +kernel) (by decide +kernel)

/-! CoreSyntax$Syntax -/
def RX1 : String := "CoreSyntax$Syntax"
def TX1 : u_T := fun k => match k with
  | 0 => ("CoreSyntax$Syntax", "kinds", "LCoreSyntax$Row;", true)
  | 1 => ("CoreSyntax$Syntax", "values", "LCoreSyntax$Row;", true)
  | 2 => ("CoreSyntax$Syntax", "numbers", "LCoreSyntax$Row;", true)
  | 3 => ("CoreSyntax$Syntax", "at", "I", false)
  | 4 => ("CoreSyntax$Syntax", "nodeKinds", "LCoreSyntax$Row;", true)
  | 5 => ("CoreSyntax$Syntax", "as", "LCoreSyntax$Row;", true)
  | 6 => ("CoreSyntax$Syntax", "bs", "LCoreSyntax$Row;", true)
  | 7 => ("CoreSyntax$Syntax", "cs", "LCoreSyntax$Row;", true)
  | 8 => ("CoreSyntax$Syntax", "places", "LCoreSyntax$Row;", true)
  | 9 => ("CoreSyntax$Syntax", "order", "LCoreSyntax$Row;", true)
  | 10 => ("CoreSyntax$Syntax", "fixities", "[B", true)
  | 11 => ("CoreSyntax$Syntax", "changed", "LCoreSyntax$Row;", true)
  | 12 => ("CoreSyntax$Syntax", "before", "LCoreSyntax$Row;", true)
  | 13 => ("CoreSyntax$Syntax", "pile", "LCoreSyntax$Row;", true)
  | 14 => ("CoreSyntax$Syntax", "operands", "LCoreSyntax$Row;", true)
  | 15 => ("CoreSyntax$Syntax", "operators", "LCoreSyntax$Row;", true)
  | 16 => ("CoreSyntax$Syntax", "renamed", "LCoreSyntax$Row;", true)
  | 17 => ("CoreSyntax$Syntax", "open", "I", false)
  | 18 => ("CoreSyntax$Syntax", "fresh", "I", false)
  | 19 => ("CoreSyntax$Syntax", "faultKind", "I", false)
  | 20 => ("CoreSyntax$Syntax", "faultAt", "I", false)
  | 21 => ("CoreSyntax$Syntax", "clauseName", "I", false)
  | _ => ("CoreSyntax$Syntax", "taken", "Z", false)
def tyX1 : Nat → FieldType := fun k => match k with
  | 0 => .object "CoreSyntax$Row"
  | 1 => .object "CoreSyntax$Row"
  | 2 => .object "CoreSyntax$Row"
  | 3 => .int
  | 4 => .object "CoreSyntax$Row"
  | 5 => .object "CoreSyntax$Row"
  | 6 => .object "CoreSyntax$Row"
  | 7 => .object "CoreSyntax$Row"
  | 8 => .object "CoreSyntax$Row"
  | 9 => .object "CoreSyntax$Row"
  | 10 => .array .byte
  | 11 => .object "CoreSyntax$Row"
  | 12 => .object "CoreSyntax$Row"
  | 13 => .object "CoreSyntax$Row"
  | 14 => .object "CoreSyntax$Row"
  | 15 => .object "CoreSyntax$Row"
  | 16 => .object "CoreSyntax$Row"
  | 17 => .int
  | 18 => .int
  | 19 => .int
  | 20 => .int
  | 21 => .int
  | _ => .boolean
abbrev wsX10 : List Cond := u_ws RX1 TX1 23
set_option maxRecDepth 100000 in
theorem nmX1 : ∀ a, a < 23 → ∀ b, b < 23 → a ≠ b → (TX1 a).2.1 ≠ (TX1 b).2.1 := by decide +kernel
set_option maxRecDepth 100000 in
theorem tyX1_ok : ∀ k, k < 23 → parseFieldDescriptor (TX1 k).2.2.1 = some (tyX1 k) := by decide +kernel
abbrev cX1_init : ByteArray := prog_3_method_1_code
def yX1_init : MethodName := ⟨RX1, "<init>", "()V"⟩
abbrev cX1_fix : ByteArray := prog_3_method_2_code
def yX1_fix : MethodName := ⟨RX1, "fix", "(III)V"⟩
abbrev cX1_isToken : ByteArray := prog_3_method_3_code
def yX1_isToken : MethodName := ⟨RX1, "isToken", "(III)Z"⟩
abbrev cX1_isFull : ByteArray := prog_3_method_4_code
def yX1_isFull : MethodName := ⟨RX1, "isFull", "()Z"⟩
abbrev cX1_add : ByteArray := prog_3_method_5_code
def yX1_add : MethodName := ⟨RX1, "add", "(III)V"⟩
abbrev cX1_clear : ByteArray := prog_3_method_6_code
def yX1_clear : MethodName := ⟨RX1, "clear", "()I"⟩
abbrev cX1_parse : ByteArray := prog_3_method_105_code
def yX1_parse : MethodName := ⟨RX1, "parse", "()Z"⟩
abbrev cX1_cut : ByteArray := prog_3_method_103_code
def yX1_cut : MethodName := ⟨RX1, "cut", "(I)V"⟩
abbrev cX1_program : ByteArray := prog_3_method_104_code
def yX1_program : MethodName := ⟨RX1, "program", "()I"⟩
abbrev cX1_kind : ByteArray := prog_3_method_7_code
def yX1_kind : MethodName := ⟨RX1, "kind", "()I"⟩
abbrev cX1_takes : ByteArray := prog_3_method_16_code
def yX1_takes : MethodName := ⟨RX1, "takes", "(I)Z"⟩
abbrev cX1_isSign : ByteArray := prog_3_method_10_code
def yX1_isSign : MethodName := ⟨RX1, "isSign", "(I)Z"⟩
abbrev cX1_value : ByteArray := prog_3_method_9_code
def yX1_value : MethodName := ⟨RX1, "value", "()I"⟩
abbrev cX1_beginsDec : ByteArray := prog_3_method_77_code
def yX1_beginsDec : MethodName := ⟨RX1, "beginsDec", "()Z"⟩
abbrev cX1_dec : ByteArray := prog_3_method_79_code
def yX1_dec : MethodName := ⟨RX1, "dec", "()V"⟩
abbrev cX1_enter : ByteArray := prog_3_method_18_code
def yX1_enter : MethodName := ⟨RX1, "enter", "()V"⟩
abbrev cX1_must : ByteArray := prog_3_method_15_code
def yX1_must : MethodName := ⟨RX1, "must", "(ZI)V"⟩
abbrev cX1_fault : ByteArray := prog_3_method_14_code
def yX1_fault : MethodName := ⟨RX1, "fault", "(I)I"⟩
abbrev cX1_valDec : ByteArray := prog_3_method_80_code
def yX1_valDec : MethodName := ⟨RX1, "valDec", "(I)I"⟩
abbrev cX1_typeVariables : ByteArray := prog_3_method_76_code
def yX1_typeVariables : MethodName := ⟨RX1, "typeVariables", "(Z)I"⟩
abbrev cX1_typeVariable : ByteArray := prog_3_method_73_code
def yX1_typeVariable : MethodName := ⟨RX1, "typeVariable", "()I"⟩
abbrev cX1_make : ByteArray := prog_3_method_19_code
def yX1_make : MethodName := ⟨RX1, "make", "(IIIII)I"⟩
abbrev cX1_single : ByteArray := prog_3_method_21_code
def yX1_single : MethodName := ⟨RX1, "single", "(I)I"⟩
abbrev cX1_kindBehind : ByteArray := prog_3_method_8_code
def yX1_kindBehind : MethodName := ⟨RX1, "kindBehind", "(I)I"⟩
abbrev cX1_need : ByteArray := prog_3_method_17_code
def yX1_need : MethodName := ⟨RX1, "need", "(I)V"⟩
abbrev cX1_list : ByteArray := prog_3_method_20_code
def yX1_list : MethodName := ⟨RX1, "list", "(I)I"⟩
abbrev cX1_pattern : ByteArray := prog_3_method_60_code
def yX1_pattern : MethodName := ⟨RX1, "pattern", "()I"⟩
abbrev cX1_infix : ByteArray := prog_3_method_42_code
def yX1_infix : MethodName := ⟨RX1, "infix", "(Z)I"⟩
abbrev cX1_applied : ByteArray := prog_3_method_64_code
def yX1_applied : MethodName := ⟨RX1, "applied", "()I"⟩
abbrev cX1_isName : ByteArray := prog_3_method_11_code
def yX1_isName : MethodName := ⟨RX1, "isName", "(I)Z"⟩
abbrev cX1_atomicPattern : ByteArray := prog_3_method_65_code
def yX1_atomicPattern : MethodName := ⟨RX1, "atomicPattern", "()I"⟩
abbrev cX1_isConstant : ByteArray := prog_3_method_13_code
def yX1_isConstant : MethodName := ⟨RX1, "isConstant", "()Z"⟩
abbrev cX1_identifier : ByteArray := prog_3_method_51_code
def yX1_identifier : MethodName := ⟨RX1, "identifier", "(IZ)I"⟩
abbrev cX1_isOperator : ByteArray := prog_3_method_12_code
def yX1_isOperator : MethodName := ⟨RX1, "isOperator", "(I)Z"⟩
abbrev cX1_recordPattern : ByteArray := prog_3_method_66_code
def yX1_recordPattern : MethodName := ⟨RX1, "recordPattern", "()I"⟩
abbrev cX1_fieldPattern : ByteArray := prog_3_method_67_code
def yX1_fieldPattern : MethodName := ⟨RX1, "fieldPattern", "(I)V"⟩
abbrev cX1_newLabel : ByteArray := prog_3_method_38_code
def yX1_newLabel : MethodName := ⟨RX1, "newLabel", "(I)I"⟩
abbrev cX1_label : ByteArray := prog_3_method_36_code
def yX1_label : MethodName := ⟨RX1, "label", "()I"⟩
abbrev cX1_type : ByteArray := prog_3_method_69_code
def yX1_type : MethodName := ⟨RX1, "type", "()I"⟩
abbrev cX1_product : ByteArray := prog_3_method_70_code
def yX1_product : MethodName := ⟨RX1, "product", "()I"⟩
abbrev cX1_constructed : ByteArray := prog_3_method_72_code
def yX1_constructed : MethodName := ⟨RX1, "constructed", "()I"⟩
abbrev cX1_recordType : ByteArray := prog_3_method_75_code
def yX1_recordType : MethodName := ⟨RX1, "recordType", "()I"⟩
abbrev cX1_field : ByteArray := prog_3_method_39_code
def yX1_field : MethodName := ⟨RX1, "field", "(IIIII)V"⟩
abbrev cX1_isBefore : ByteArray := prog_3_method_37_code
def yX1_isBefore : MethodName := ⟨RX1, "isBefore", "(II)Z"⟩
abbrev cX1_bracketedType : ByteArray := prog_3_method_74_code
def yX1_bracketedType : MethodName := ⟨RX1, "bracketedType", "()I"⟩
abbrev cX1_tycon : ByteArray := prog_3_method_71_code
def yX1_tycon : MethodName := ⟨RX1, "tycon", "(II)I"⟩
abbrev cX1_isTycon : ByteArray := prog_3_method_68_code
def yX1_isTycon : MethodName := ⟨RX1, "isTycon", "()Z"⟩
abbrev cX1_tuple : ByteArray := prog_3_method_29_code
def yX1_tuple : MethodName := ⟨RX1, "tuple", "(IIII)I"⟩
abbrev cX1_layer : ByteArray := prog_3_method_62_code
def yX1_layer : MethodName := ⟨RX1, "layer", "(III)I"⟩
abbrev cX1_isProtected : ByteArray := prog_3_method_59_code
def yX1_isProtected : MethodName := ⟨RX1, "isProtected", "(I)Z"⟩
abbrev cX1_variable : ByteArray := prog_3_method_23_code
def yX1_variable : MethodName := ⟨RX1, "variable", "(II)I"⟩
abbrev cX1_brackets : ByteArray := prog_3_method_56_code
def yX1_brackets : MethodName := ⟨RX1, "brackets", "(Z)I"⟩
abbrev cX1_inner : ByteArray := prog_3_method_55_code
def yX1_inner : MethodName := ⟨RX1, "inner", "(Z)I"⟩
abbrev cX1_exp : ByteArray := prog_3_method_43_code
def yX1_exp : MethodName := ⟨RX1, "exp", "(I)I"⟩
abbrev cX1_form : ByteArray := prog_3_method_44_code
def yX1_form : MethodName := ⟨RX1, "form", "()I"⟩
abbrev cX1_match : ByteArray := prog_3_method_48_code
def yX1_match : MethodName := ⟨RX1, "match", "()I"⟩
abbrev cX1_rule : ByteArray := prog_3_method_25_code
def yX1_rule : MethodName := ⟨RX1, "rule", "(III)I"⟩
abbrev cX1_function : ByteArray := prog_3_method_26_code
def yX1_function : MethodName := ⟨RX1, "function", "(II)I"⟩
abbrev cX1_casing : ByteArray := prog_3_method_45_code
def yX1_casing : MethodName := ⟨RX1, "casing", "(I)I"⟩
abbrev cX1_apply : ByteArray := prog_3_method_24_code
def yX1_apply : MethodName := ⟨RX1, "apply", "(III)I"⟩
abbrev cX1_choice : ByteArray := prog_3_method_46_code
def yX1_choice : MethodName := ⟨RX1, "choice", "(I)I"⟩
abbrev cX1_choose : ByteArray := prog_3_method_32_code
def yX1_choose : MethodName := ⟨RX1, "choose", "(IIII)I"⟩
abbrev cX1_looping : ByteArray := prog_3_method_47_code
def yX1_looping : MethodName := ⟨RX1, "looping", "(I)I"⟩
abbrev cX1_loop : ByteArray := prog_3_method_34_code
def yX1_loop : MethodName := ⟨RX1, "loop", "(III)I"⟩
abbrev cX1_freshName : ByteArray := prog_3_method_28_code
def yX1_freshName : MethodName := ⟨RX1, "freshName", "()I"⟩
abbrev cX1_name : ByteArray := prog_3_method_22_code
def yX1_name : MethodName := ⟨RX1, "name", "(II)I"⟩
abbrev cX1_unit : ByteArray := prog_3_method_31_code
def yX1_unit : MethodName := ⟨RX1, "unit", "(I)I"⟩
abbrev cX1_sequence : ByteArray := prog_3_method_33_code
def yX1_sequence : MethodName := ⟨RX1, "sequence", "(II)I"⟩
abbrev cX1_lambda : ByteArray := prog_3_method_27_code
def yX1_lambda : MethodName := ⟨RX1, "lambda", "(III)I"⟩
abbrev cX1_elements : ByteArray := prog_3_method_57_code
def yX1_elements : MethodName := ⟨RX1, "elements", "(Z)I"⟩
abbrev cX1_chain : ByteArray := prog_3_method_35_code
def yX1_chain : MethodName := ⟨RX1, "chain", "(IZI)I"⟩
abbrev cX1_pair : ByteArray := prog_3_method_30_code
def yX1_pair : MethodName := ⟨RX1, "pair", "(IIZI)I"⟩
abbrev cX1_beginsAtomicPattern : ByteArray := prog_3_method_63_code
def yX1_beginsAtomicPattern : MethodName := ⟨RX1, "beginsAtomicPattern", "()Z"⟩
abbrev cX1_application : ByteArray := prog_3_method_50_code
def yX1_application : MethodName := ⟨RX1, "application", "()I"⟩
abbrev cX1_atom : ByteArray := prog_3_method_52_code
def yX1_atom : MethodName := ⟨RX1, "atom", "()I"⟩
abbrev cX1_recordExp : ByteArray := prog_3_method_53_code
def yX1_recordExp : MethodName := ⟨RX1, "recordExp", "()I"⟩
abbrev cX1_selector : ByteArray := prog_3_method_54_code
def yX1_selector : MethodName := ⟨RX1, "selector", "()I"⟩
abbrev cX1_let : ByteArray := prog_3_method_58_code
def yX1_let : MethodName := ⟨RX1, "let", "()I"⟩
abbrev cX1_decs : ByteArray := prog_3_method_78_code
def yX1_decs : MethodName := ⟨RX1, "decs", "()I"⟩
abbrev cX1_back : ByteArray := prog_3_method_94_code
def yX1_back : MethodName := ⟨RX1, "back", "(I)V"⟩
abbrev cX1_beginsAtom : ByteArray := prog_3_method_49_code
def yX1_beginsAtom : MethodName := ⟨RX1, "beginsAtom", "()Z"⟩
abbrev cX1_isFirst : ByteArray := prog_3_method_40_code
def yX1_isFirst : MethodName := ⟨RX1, "isFirst", "(I)Z"⟩
abbrev cX1_reduce : ByteArray := prog_3_method_41_code
def yX1_reduce : MethodName := ⟨RX1, "reduce", "(Z)V"⟩
abbrev cX1_isOpAt : ByteArray := prog_3_method_61_code
def yX1_isOpAt : MethodName := ⟨RX1, "isOpAt", "(I)Z"⟩
abbrev cX1_functions : ByteArray := prog_3_method_97_code
def yX1_functions : MethodName := ⟨RX1, "functions", "(I)I"⟩
abbrev cX1_clauses : ByteArray := prog_3_method_98_code
def yX1_clauses : MethodName := ⟨RX1, "clauses", "()I"⟩
abbrev cX1_head : ByteArray := prog_3_method_100_code
def yX1_head : MethodName := ⟨RX1, "head", "()V"⟩
abbrev cX1_arguments : ByteArray := prog_3_method_101_code
def yX1_arguments : MethodName := ⟨RX1, "arguments", "(Z)V"⟩
abbrev cX1_inBrackets : ByteArray := prog_3_method_102_code
def yX1_inBrackets : MethodName := ⟨RX1, "inBrackets", "()Z"⟩
abbrev cX1_curried : ByteArray := prog_3_method_99_code
def yX1_curried : MethodName := ⟨RX1, "curried", "(III)I"⟩
abbrev cX1_typeBindings : ByteArray := prog_3_method_82_code
def yX1_typeBindings : MethodName := ⟨RX1, "typeBindings", "()I"⟩
abbrev cX1_shortTycon : ByteArray := prog_3_method_81_code
def yX1_shortTycon : MethodName := ⟨RX1, "shortTycon", "()I"⟩
abbrev cX1_datatype : ByteArray := prog_3_method_88_code
def yX1_datatype : MethodName := ⟨RX1, "datatype", "(I)I"⟩
abbrev cX1_dataBindings : ByteArray := prog_3_method_86_code
def yX1_dataBindings : MethodName := ⟨RX1, "dataBindings", "(III)I"⟩
abbrev cX1_constructors : ByteArray := prog_3_method_85_code
def yX1_constructors : MethodName := ⟨RX1, "constructors", "()I"⟩
abbrev cX1_newName : ByteArray := prog_3_method_83_code
def yX1_newName : MethodName := ⟨RX1, "newName", "()I"⟩
abbrev cX1_ofType : ByteArray := prog_3_method_84_code
def yX1_ofType : MethodName := ⟨RX1, "ofType", "()I"⟩
abbrev cX1_withTypes : ByteArray := prog_3_method_87_code
def yX1_withTypes : MethodName := ⟨RX1, "withTypes", "()I"⟩
abbrev cX1_abstype : ByteArray := prog_3_method_89_code
def yX1_abstype : MethodName := ⟨RX1, "abstype", "(I)I"⟩
abbrev cX1_exceptions : ByteArray := prog_3_method_90_code
def yX1_exceptions : MethodName := ⟨RX1, "exceptions", "()I"⟩
abbrev cX1_local : ByteArray := prog_3_method_91_code
def yX1_local : MethodName := ⟨RX1, "local", "(I)I"⟩
abbrev cX1_forget : ByteArray := prog_3_method_95_code
def yX1_forget : MethodName := ⟨RX1, "forget", "(II)V"⟩
abbrev cX1_change : ByteArray := prog_3_method_93_code
def yX1_change : MethodName := ⟨RX1, "change", "(II)V"⟩
abbrev cX1_opened : ByteArray := prog_3_method_92_code
def yX1_opened : MethodName := ⟨RX1, "opened", "()I"⟩
abbrev cX1_directive : ByteArray := prog_3_method_96_code
def yX1_directive : MethodName := ⟨RX1, "directive", "(I)V"⟩
abbrev cX1_sort : ByteArray := prog_3_method_111_code
def yX1_sort : MethodName := ⟨RX1, "sort", "(I)V"⟩
abbrev cX1_child : ByteArray := prog_3_method_110_code
def yX1_child : MethodName := ⟨RX1, "child", "(II)I"⟩
abbrev cX1_children : ByteArray := prog_3_method_108_code
def yX1_children : MethodName := ⟨RX1, "children", "(I)I"⟩
abbrev cX1_part : ByteArray := prog_3_method_109_code
def yX1_part : MethodName := ⟨RX1, "part", "(II)I"⟩
abbrev cX1_point : ByteArray := prog_3_method_112_code
def yX1_point : MethodName := ⟨RX1, "point", "(I)V"⟩
abbrev cX1_exchange : ByteArray := prog_3_method_113_code
def yX1_exchange : MethodName := ⟨RX1, "exchange", "(II)V"⟩
abbrev cX1_rename : ByteArray := prog_3_method_114_code
def yX1_rename : MethodName := ⟨RX1, "rename", "(I)V"⟩
abbrev cX1_drop : ByteArray := prog_3_method_106_code
def yX1_drop : MethodName := ⟨RX1, "drop", "(I)V"⟩
abbrev cX1_nodes : ByteArray := prog_3_method_115_code
def yX1_nodes : MethodName := ⟨RX1, "nodes", "()I"⟩
abbrev cX1_retreat : ByteArray := prog_3_method_107_code
def yX1_retreat : MethodName := ⟨RX1, "retreat", "()Z"⟩
abbrev cX1_isNode : ByteArray := prog_3_method_116_code
def yX1_isNode : MethodName := ⟨RX1, "isNode", "(I)Z"⟩
abbrev cX1_node : ByteArray := prog_3_method_117_code
def yX1_node : MethodName := ⟨RX1, "node", "(II)I"⟩
abbrev cX1_behind : ByteArray := prog_3_method_118_code
def yX1_behind : MethodName := ⟨RX1, "behind", "(I)I"⟩
abbrev cX1_same : ByteArray := prog_3_method_119_code
def yX1_same : MethodName := ⟨RX1, "same", "(II)Z"⟩
theorem q199 : (Jvm.Cond.initialized "CoreSyntax$Syntax") ∈ lw_all := lw_g (lw_at lw_m1 2 rfl) rfl
theorem q217 : (Jvm.Cond.instantiable "CoreSyntax$Syntax" (23 : Nat)) ∈ lw_all := lw_g (lw_at lw_m1 20 rfl) rfl
theorem q219 : (Jvm.Cond.instanceMethod ({ cls := "CoreSyntax$Syntax", name := "<init>", desc := "()V" } : Jvm.MethodName)) ∈ lw_all := lw_g (lw_at lw_m1 22 rfl) rfl
theorem q220 : (Jvm.Cond.code ({ cls := "CoreSyntax$Syntax", name := "<init>", desc := "()V" } : Jvm.MethodName) prog_3_method_1_code (2 : Nat) (Option.none : Option Jvm.ClassFile.FieldType)) ∈ lw_all := lw_g (lw_at lw_m1 23 rfl) rfl
theorem q221 : (Jvm.Cond.methodLink "CoreSyntax$Syntax" (3 : Nat) ({ cls := "java/lang/Object", name := "<init>", desc := "()V" } : Jvm.MethodName)) ∈ lw_all := lw_g (lw_at lw_m1 24 rfl) rfl
theorem q222 : (Jvm.Cond.classLink "CoreSyntax$Syntax" (9 : Nat) "CoreSyntax$Row") ∈ lw_all := lw_g (lw_at lw_m1 25 rfl) rfl
theorem q224 : (Jvm.Cond.methodLinkNest "CoreSyntax$Syntax" (11 : Nat) ({ cls := "CoreSyntax$Row", name := "<init>", desc := "()V" } : Jvm.MethodName) "CoreSyntax") ∈ lw_tbl := lw_at lw_m1 27 rfl
theorem q229 : (Jvm.Cond.fieldLinkNest "CoreSyntax$Syntax" (86 : Nat) "CoreSyntax$Row" "cells" "[I" "CoreSyntax") ∈ lw_tbl := lw_at lw_m1 32 rfl
theorem q232 : (Jvm.Cond.fieldLinkNest "CoreSyntax$Syntax" (76 : Nat) "CoreSyntax$Row" "size" "I" "CoreSyntax") ∈ lw_tbl := lw_at lw_m1 35 rfl
theorem q239 : (Jvm.Cond.methodLink "CoreSyntax$Syntax" (72 : Nat) ({ cls := "CoreSyntax$Syntax", name := "fix", desc := "(III)V" } : Jvm.MethodName)) ∈ lw_all := lw_g (lw_at lw_m1 42 rfl) rfl
theorem q240 : (Jvm.Cond.privateMethod ({ cls := "CoreSyntax$Syntax", name := "fix", desc := "(III)V" } : Jvm.MethodName)) ∈ lw_tbl := lw_at lw_m1 43 rfl
theorem q241 : (Jvm.Cond.instanceMethod ({ cls := "CoreSyntax$Syntax", name := "fix", desc := "(III)V" } : Jvm.MethodName)) ∈ lw_all := lw_g (lw_at lw_m1 44 rfl) rfl
theorem q242 : (Jvm.Cond.code ({ cls := "CoreSyntax$Syntax", name := "fix", desc := "(III)V" } : Jvm.MethodName) prog_3_method_2_code (4 : Nat) (Option.none : Option Jvm.ClassFile.FieldType)) ∈ lw_all := lw_g (lw_at lw_m1 45 rfl) rfl
theorem q243 : (Jvm.Cond.fieldLink "CoreSyntax$Syntax" (12 : Nat) "CoreSyntax$Syntax" "kinds" "LCoreSyntax$Row;") ∈ lw_all := lw_g (lw_at lw_m1 46 rfl) rfl
theorem q245 : (Jvm.Cond.fieldLink "CoreSyntax$Syntax" (18 : Nat) "CoreSyntax$Syntax" "values" "LCoreSyntax$Row;") ∈ lw_all := lw_g (lw_at lw_m1 48 rfl) rfl
theorem q246 : (Jvm.Cond.fieldLink "CoreSyntax$Syntax" (21 : Nat) "CoreSyntax$Syntax" "numbers" "LCoreSyntax$Row;") ∈ lw_all := lw_g (lw_at lw_m1 49 rfl) rfl
theorem q247 : (Jvm.Cond.fieldLink "CoreSyntax$Syntax" (83 : Nat) "CoreSyntax$Syntax" "at" "I") ∈ lw_all := lw_g (lw_at lw_m1 50 rfl) rfl
theorem q248 : (Jvm.Cond.fieldLink "CoreSyntax$Syntax" (24 : Nat) "CoreSyntax$Syntax" "nodeKinds" "LCoreSyntax$Row;") ∈ lw_all := lw_g (lw_at lw_m1 51 rfl) rfl
theorem q249 : (Jvm.Cond.fieldLink "CoreSyntax$Syntax" (27 : Nat) "CoreSyntax$Syntax" "as" "LCoreSyntax$Row;") ∈ lw_all := lw_g (lw_at lw_m1 52 rfl) rfl
theorem q250 : (Jvm.Cond.fieldLink "CoreSyntax$Syntax" (30 : Nat) "CoreSyntax$Syntax" "bs" "LCoreSyntax$Row;") ∈ lw_all := lw_g (lw_at lw_m1 53 rfl) rfl
theorem q251 : (Jvm.Cond.fieldLink "CoreSyntax$Syntax" (33 : Nat) "CoreSyntax$Syntax" "cs" "LCoreSyntax$Row;") ∈ lw_all := lw_g (lw_at lw_m1 54 rfl) rfl
theorem q252 : (Jvm.Cond.fieldLink "CoreSyntax$Syntax" (36 : Nat) "CoreSyntax$Syntax" "places" "LCoreSyntax$Row;") ∈ lw_all := lw_g (lw_at lw_m1 55 rfl) rfl
theorem q253 : (Jvm.Cond.fieldLink "CoreSyntax$Syntax" (39 : Nat) "CoreSyntax$Syntax" "order" "LCoreSyntax$Row;") ∈ lw_all := lw_g (lw_at lw_m1 56 rfl) rfl
theorem q254 : (Jvm.Cond.fieldLink "CoreSyntax$Syntax" (42 : Nat) "CoreSyntax$Syntax" "fixities" "[B") ∈ lw_all := lw_g (lw_at lw_m1 57 rfl) rfl
theorem q256 : (Jvm.Cond.fieldLink "CoreSyntax$Syntax" (46 : Nat) "CoreSyntax$Syntax" "changed" "LCoreSyntax$Row;") ∈ lw_all := lw_g (lw_at lw_m1 59 rfl) rfl
theorem q257 : (Jvm.Cond.fieldLink "CoreSyntax$Syntax" (49 : Nat) "CoreSyntax$Syntax" "before" "LCoreSyntax$Row;") ∈ lw_all := lw_g (lw_at lw_m1 60 rfl) rfl
theorem q258 : (Jvm.Cond.fieldLink "CoreSyntax$Syntax" (52 : Nat) "CoreSyntax$Syntax" "pile" "LCoreSyntax$Row;") ∈ lw_all := lw_g (lw_at lw_m1 61 rfl) rfl
theorem q259 : (Jvm.Cond.fieldLink "CoreSyntax$Syntax" (55 : Nat) "CoreSyntax$Syntax" "operands" "LCoreSyntax$Row;") ∈ lw_all := lw_g (lw_at lw_m1 62 rfl) rfl
theorem q260 : (Jvm.Cond.fieldLink "CoreSyntax$Syntax" (58 : Nat) "CoreSyntax$Syntax" "operators" "LCoreSyntax$Row;") ∈ lw_all := lw_g (lw_at lw_m1 63 rfl) rfl
theorem q261 : (Jvm.Cond.fieldLink "CoreSyntax$Syntax" (61 : Nat) "CoreSyntax$Syntax" "renamed" "LCoreSyntax$Row;") ∈ lw_all := lw_g (lw_at lw_m1 64 rfl) rfl
theorem q262 : (Jvm.Cond.fieldLink "CoreSyntax$Syntax" (124 : Nat) "CoreSyntax$Syntax" "open" "I") ∈ lw_all := lw_g (lw_at lw_m1 65 rfl) rfl
theorem q264 : (Jvm.Cond.fieldLink "CoreSyntax$Syntax" (145 : Nat) "CoreSyntax$Syntax" "fresh" "I") ∈ lw_all := lw_g (lw_at lw_m1 67 rfl) rfl
theorem q266 : (Jvm.Cond.fieldLink "CoreSyntax$Syntax" (105 : Nat) "CoreSyntax$Syntax" "faultKind" "I") ∈ lw_all := lw_g (lw_at lw_m1 69 rfl) rfl
theorem q267 : (Jvm.Cond.fieldLink "CoreSyntax$Syntax" (64 : Nat) "CoreSyntax$Syntax" "faultAt" "I") ∈ lw_all := lw_g (lw_at lw_m1 70 rfl) rfl
theorem q269 : (Jvm.Cond.fieldLink "CoreSyntax$Syntax" (404 : Nat) "CoreSyntax$Syntax" "clauseName" "I") ∈ lw_all := lw_g (lw_at lw_m1 72 rfl) rfl
theorem q270 : (Jvm.Cond.fieldLink "CoreSyntax$Syntax" (68 : Nat) "CoreSyntax$Syntax" "taken" "Z") ∈ lw_all := lw_g (lw_at lw_m1 73 rfl) rfl
theorem q271 : (Jvm.Cond.laysFinal "CoreSyntax$Syntax" "CoreSyntax$Syntax" "kinds" "LCoreSyntax$Row;") ∈ lw_all := lw_g (lw_at lw_m1 74 rfl) rfl
theorem q272 : (Jvm.Cond.soleField "CoreSyntax$Syntax" "kinds") ∈ lw_all := lw_g (lw_at lw_m1 75 rfl) rfl
theorem q273 : (Jvm.Cond.laysFinal "CoreSyntax$Syntax" "CoreSyntax$Syntax" "values" "LCoreSyntax$Row;") ∈ lw_all := lw_g (lw_at lw_m1 76 rfl) rfl
theorem q274 : (Jvm.Cond.soleField "CoreSyntax$Syntax" "values") ∈ lw_all := lw_g (lw_at lw_m1 77 rfl) rfl
theorem q275 : (Jvm.Cond.laysFinal "CoreSyntax$Syntax" "CoreSyntax$Syntax" "numbers" "LCoreSyntax$Row;") ∈ lw_all := lw_g (lw_at lw_m1 78 rfl) rfl
theorem q276 : (Jvm.Cond.soleField "CoreSyntax$Syntax" "numbers") ∈ lw_all := lw_g (lw_at lw_m1 79 rfl) rfl
theorem q277 : (Jvm.Cond.lays "CoreSyntax$Syntax" "CoreSyntax$Syntax" "at" "I") ∈ lw_all := lw_g (lw_at lw_m1 80 rfl) rfl
theorem q278 : (Jvm.Cond.soleField "CoreSyntax$Syntax" "at") ∈ lw_all := lw_g (lw_at lw_m1 81 rfl) rfl
theorem q279 : (Jvm.Cond.laysFinal "CoreSyntax$Syntax" "CoreSyntax$Syntax" "nodeKinds" "LCoreSyntax$Row;") ∈ lw_all := lw_g (lw_at lw_m1 82 rfl) rfl
theorem q280 : (Jvm.Cond.soleField "CoreSyntax$Syntax" "nodeKinds") ∈ lw_all := lw_g (lw_at lw_m1 83 rfl) rfl
theorem q281 : (Jvm.Cond.laysFinal "CoreSyntax$Syntax" "CoreSyntax$Syntax" "as" "LCoreSyntax$Row;") ∈ lw_all := lw_g (lw_at lw_m1 84 rfl) rfl
theorem q282 : (Jvm.Cond.soleField "CoreSyntax$Syntax" "as") ∈ lw_all := lw_g (lw_at lw_m1 85 rfl) rfl
theorem q283 : (Jvm.Cond.laysFinal "CoreSyntax$Syntax" "CoreSyntax$Syntax" "bs" "LCoreSyntax$Row;") ∈ lw_all := lw_g (lw_at lw_m1 86 rfl) rfl
theorem q284 : (Jvm.Cond.soleField "CoreSyntax$Syntax" "bs") ∈ lw_all := lw_g (lw_at lw_m1 87 rfl) rfl
theorem q285 : (Jvm.Cond.laysFinal "CoreSyntax$Syntax" "CoreSyntax$Syntax" "cs" "LCoreSyntax$Row;") ∈ lw_all := lw_g (lw_at lw_m1 88 rfl) rfl
theorem q286 : (Jvm.Cond.soleField "CoreSyntax$Syntax" "cs") ∈ lw_all := lw_g (lw_at lw_m1 89 rfl) rfl
theorem q287 : (Jvm.Cond.laysFinal "CoreSyntax$Syntax" "CoreSyntax$Syntax" "places" "LCoreSyntax$Row;") ∈ lw_all := lw_g (lw_at lw_m1 90 rfl) rfl
theorem q288 : (Jvm.Cond.soleField "CoreSyntax$Syntax" "places") ∈ lw_all := lw_g (lw_at lw_m1 91 rfl) rfl
theorem q289 : (Jvm.Cond.laysFinal "CoreSyntax$Syntax" "CoreSyntax$Syntax" "order" "LCoreSyntax$Row;") ∈ lw_all := lw_g (lw_at lw_m1 92 rfl) rfl
theorem q290 : (Jvm.Cond.soleField "CoreSyntax$Syntax" "order") ∈ lw_all := lw_g (lw_at lw_m1 93 rfl) rfl
theorem q291 : (Jvm.Cond.laysFinal "CoreSyntax$Syntax" "CoreSyntax$Syntax" "fixities" "[B") ∈ lw_all := lw_g (lw_at lw_m1 94 rfl) rfl
theorem q292 : (Jvm.Cond.soleField "CoreSyntax$Syntax" "fixities") ∈ lw_all := lw_g (lw_at lw_m1 95 rfl) rfl
theorem q293 : (Jvm.Cond.laysFinal "CoreSyntax$Syntax" "CoreSyntax$Syntax" "changed" "LCoreSyntax$Row;") ∈ lw_all := lw_g (lw_at lw_m1 96 rfl) rfl
theorem q294 : (Jvm.Cond.soleField "CoreSyntax$Syntax" "changed") ∈ lw_all := lw_g (lw_at lw_m1 97 rfl) rfl
theorem q295 : (Jvm.Cond.laysFinal "CoreSyntax$Syntax" "CoreSyntax$Syntax" "before" "LCoreSyntax$Row;") ∈ lw_all := lw_g (lw_at lw_m1 98 rfl) rfl
theorem q296 : (Jvm.Cond.soleField "CoreSyntax$Syntax" "before") ∈ lw_all := lw_g (lw_at lw_m1 99 rfl) rfl
theorem q297 : (Jvm.Cond.laysFinal "CoreSyntax$Syntax" "CoreSyntax$Syntax" "pile" "LCoreSyntax$Row;") ∈ lw_all := lw_g (lw_at lw_m1 100 rfl) rfl
theorem q298 : (Jvm.Cond.soleField "CoreSyntax$Syntax" "pile") ∈ lw_all := lw_g (lw_at lw_m1 101 rfl) rfl
theorem q299 : (Jvm.Cond.laysFinal "CoreSyntax$Syntax" "CoreSyntax$Syntax" "operands" "LCoreSyntax$Row;") ∈ lw_all := lw_g (lw_at lw_m1 102 rfl) rfl
theorem q300 : (Jvm.Cond.soleField "CoreSyntax$Syntax" "operands") ∈ lw_all := lw_g (lw_at lw_m1 103 rfl) rfl
theorem q301 : (Jvm.Cond.laysFinal "CoreSyntax$Syntax" "CoreSyntax$Syntax" "operators" "LCoreSyntax$Row;") ∈ lw_all := lw_g (lw_at lw_m1 104 rfl) rfl
theorem q302 : (Jvm.Cond.soleField "CoreSyntax$Syntax" "operators") ∈ lw_all := lw_g (lw_at lw_m1 105 rfl) rfl
theorem q303 : (Jvm.Cond.laysFinal "CoreSyntax$Syntax" "CoreSyntax$Syntax" "renamed" "LCoreSyntax$Row;") ∈ lw_all := lw_g (lw_at lw_m1 106 rfl) rfl
theorem q304 : (Jvm.Cond.soleField "CoreSyntax$Syntax" "renamed") ∈ lw_all := lw_g (lw_at lw_m1 107 rfl) rfl
theorem q305 : (Jvm.Cond.lays "CoreSyntax$Syntax" "CoreSyntax$Syntax" "open" "I") ∈ lw_all := lw_g (lw_at lw_m1 108 rfl) rfl
theorem q306 : (Jvm.Cond.soleField "CoreSyntax$Syntax" "open") ∈ lw_all := lw_g (lw_at lw_m1 109 rfl) rfl
theorem q307 : (Jvm.Cond.lays "CoreSyntax$Syntax" "CoreSyntax$Syntax" "fresh" "I") ∈ lw_all := lw_g (lw_at lw_m1 110 rfl) rfl
theorem q308 : (Jvm.Cond.soleField "CoreSyntax$Syntax" "fresh") ∈ lw_all := lw_g (lw_at lw_m1 111 rfl) rfl
theorem q309 : (Jvm.Cond.lays "CoreSyntax$Syntax" "CoreSyntax$Syntax" "faultKind" "I") ∈ lw_all := lw_g (lw_at lw_m1 112 rfl) rfl
theorem q310 : (Jvm.Cond.soleField "CoreSyntax$Syntax" "faultKind") ∈ lw_all := lw_g (lw_at lw_m1 113 rfl) rfl
theorem q311 : (Jvm.Cond.lays "CoreSyntax$Syntax" "CoreSyntax$Syntax" "faultAt" "I") ∈ lw_all := lw_g (lw_at lw_m1 114 rfl) rfl
theorem q312 : (Jvm.Cond.soleField "CoreSyntax$Syntax" "faultAt") ∈ lw_all := lw_g (lw_at lw_m1 115 rfl) rfl
theorem q313 : (Jvm.Cond.lays "CoreSyntax$Syntax" "CoreSyntax$Syntax" "clauseName" "I") ∈ lw_all := lw_g (lw_at lw_m1 116 rfl) rfl
theorem q314 : (Jvm.Cond.soleField "CoreSyntax$Syntax" "clauseName") ∈ lw_all := lw_g (lw_at lw_m1 117 rfl) rfl
theorem q315 : (Jvm.Cond.lays "CoreSyntax$Syntax" "CoreSyntax$Syntax" "taken" "Z") ∈ lw_all := lw_g (lw_at lw_m1 118 rfl) rfl
theorem q316 : (Jvm.Cond.soleField "CoreSyntax$Syntax" "taken") ∈ lw_all := lw_g (lw_at lw_m1 119 rfl) rfl
theorem q317 : (Jvm.Cond.superclass "CoreSyntax$Syntax" "java/lang/Object") ∈ lw_all := lw_g (lw_at lw_m1 120 rfl) rfl
theorem q328 : (Jvm.Cond.instanceMethod ({ cls := "CoreSyntax$Syntax", name := "isToken", desc := "(III)Z" } : Jvm.MethodName)) ∈ lw_all := lw_g (lw_at lw_m1 131 rfl) rfl
theorem q329 : (Jvm.Cond.selects "CoreSyntax$Syntax" ({ cls := "CoreSyntax$Syntax", name := "isToken", desc := "(III)Z" } : Jvm.MethodName) ({ cls := "CoreSyntax$Syntax", name := "isToken", desc := "(III)Z" } : Jvm.MethodName)) ∈ lw_all := lw_g (lw_at lw_m1 132 rfl) rfl
theorem q330 : (Jvm.Cond.code ({ cls := "CoreSyntax$Syntax", name := "isToken", desc := "(III)Z" } : Jvm.MethodName) prog_3_method_3_code (6 : Nat) (Option.some Jvm.ClassFile.FieldType.boolean)) ∈ lw_all := lw_g (lw_at lw_m1 133 rfl) rfl
theorem q332 : (Jvm.Cond.instanceMethod ({ cls := "CoreSyntax$Syntax", name := "isFull", desc := "()Z" } : Jvm.MethodName)) ∈ lw_all := lw_g (lw_at lw_m1 135 rfl) rfl
theorem q333 : (Jvm.Cond.selects "CoreSyntax$Syntax" ({ cls := "CoreSyntax$Syntax", name := "isFull", desc := "()Z" } : Jvm.MethodName) ({ cls := "CoreSyntax$Syntax", name := "isFull", desc := "()Z" } : Jvm.MethodName)) ∈ lw_all := lw_g (lw_at lw_m1 136 rfl) rfl
theorem q334 : (Jvm.Cond.code ({ cls := "CoreSyntax$Syntax", name := "isFull", desc := "()Z" } : Jvm.MethodName) prog_3_method_4_code (1 : Nat) (Option.some Jvm.ClassFile.FieldType.boolean)) ∈ lw_all := lw_g (lw_at lw_m1 137 rfl) rfl
theorem q336 : (Jvm.Cond.instanceMethod ({ cls := "CoreSyntax$Syntax", name := "add", desc := "(III)V" } : Jvm.MethodName)) ∈ lw_all := lw_g (lw_at lw_m1 139 rfl) rfl
theorem q337 : (Jvm.Cond.selects "CoreSyntax$Syntax" ({ cls := "CoreSyntax$Syntax", name := "add", desc := "(III)V" } : Jvm.MethodName) ({ cls := "CoreSyntax$Syntax", name := "add", desc := "(III)V" } : Jvm.MethodName)) ∈ lw_all := lw_g (lw_at lw_m1 140 rfl) rfl
theorem q338 : (Jvm.Cond.code ({ cls := "CoreSyntax$Syntax", name := "add", desc := "(III)V" } : Jvm.MethodName) prog_3_method_5_code (4 : Nat) (Option.none : Option Jvm.ClassFile.FieldType)) ∈ lw_all := lw_g (lw_at lw_m1 141 rfl) rfl
theorem q339 : (Jvm.Cond.methodLink "CoreSyntax$Syntax" (79 : Nat) ({ cls := "CoreSyntax$Row", name := "add", desc := "(I)V" } : Jvm.MethodName)) ∈ lw_all := lw_g (lw_at lw_m1 142 rfl) rfl
theorem q351 : (Jvm.Cond.instanceMethod ({ cls := "CoreSyntax$Syntax", name := "clear", desc := "()I" } : Jvm.MethodName)) ∈ lw_all := lw_g (lw_at lw_m1 154 rfl) rfl
theorem q352 : (Jvm.Cond.selects "CoreSyntax$Syntax" ({ cls := "CoreSyntax$Syntax", name := "clear", desc := "()I" } : Jvm.MethodName) ({ cls := "CoreSyntax$Syntax", name := "clear", desc := "()I" } : Jvm.MethodName)) ∈ lw_all := lw_g (lw_at lw_m1 155 rfl) rfl
theorem q353 : (Jvm.Cond.code ({ cls := "CoreSyntax$Syntax", name := "clear", desc := "()I" } : Jvm.MethodName) prog_3_method_6_code (2 : Nat) (Option.some Jvm.ClassFile.FieldType.int)) ∈ lw_all := lw_g (lw_at lw_m1 156 rfl) rfl
theorem q359 : (Jvm.Cond.instanceMethod ({ cls := "CoreSyntax$Syntax", name := "parse", desc := "()Z" } : Jvm.MethodName)) ∈ lw_all := lw_g (lw_at lw_m1 162 rfl) rfl
theorem q360 : (Jvm.Cond.selects "CoreSyntax$Syntax" ({ cls := "CoreSyntax$Syntax", name := "parse", desc := "()Z" } : Jvm.MethodName) ({ cls := "CoreSyntax$Syntax", name := "parse", desc := "()Z" } : Jvm.MethodName)) ∈ lw_all := lw_g (lw_at lw_m1 163 rfl) rfl
theorem q361 : (Jvm.Cond.codeWith ({ cls := "CoreSyntax$Syntax", name := "parse", desc := "()Z" } : Jvm.MethodName) prog_3_method_105_code (3 : Nat) (Option.some Jvm.ClassFile.FieldType.boolean) [((62 : Nat), (72 : Nat), (75 : Nat), (108 : Nat))]) ∈ lw_all := lw_g (lw_at lw_m1 164 rfl) rfl
theorem q362 : (Jvm.Cond.classLink "CoreSyntax$Syntax" (108 : Nat) "java/lang/IllegalStateException") ∈ lw_all := lw_g (lw_at lw_m1 165 rfl) rfl
theorem q363 : (Jvm.Cond.methodLink "CoreSyntax$Syntax" (416 : Nat) ({ cls := "CoreSyntax$Syntax", name := "cut", desc := "(I)V" } : Jvm.MethodName)) ∈ lw_all := lw_g (lw_at lw_m1 166 rfl) rfl
theorem q364 : (Jvm.Cond.privateMethod ({ cls := "CoreSyntax$Syntax", name := "cut", desc := "(I)V" } : Jvm.MethodName)) ∈ lw_tbl := lw_at lw_m1 167 rfl
theorem q365 : (Jvm.Cond.instanceMethod ({ cls := "CoreSyntax$Syntax", name := "cut", desc := "(I)V" } : Jvm.MethodName)) ∈ lw_all := lw_g (lw_at lw_m1 168 rfl) rfl
theorem q366 : (Jvm.Cond.code ({ cls := "CoreSyntax$Syntax", name := "cut", desc := "(I)V" } : Jvm.MethodName) prog_3_method_103_code (2 : Nat) (Option.none : Option Jvm.ClassFile.FieldType)) ∈ lw_all := lw_g (lw_at lw_m1 169 rfl) rfl
theorem q367 : (Jvm.Cond.methodLink "CoreSyntax$Syntax" (419 : Nat) ({ cls := "CoreSyntax$Syntax", name := "program", desc := "()I" } : Jvm.MethodName)) ∈ lw_all := lw_g (lw_at lw_m1 170 rfl) rfl
theorem q368 : (Jvm.Cond.privateMethod ({ cls := "CoreSyntax$Syntax", name := "program", desc := "()I" } : Jvm.MethodName)) ∈ lw_tbl := lw_at lw_m1 171 rfl
theorem q369 : (Jvm.Cond.instanceMethod ({ cls := "CoreSyntax$Syntax", name := "program", desc := "()I" } : Jvm.MethodName)) ∈ lw_all := lw_g (lw_at lw_m1 172 rfl) rfl
theorem q370 : (Jvm.Cond.code ({ cls := "CoreSyntax$Syntax", name := "program", desc := "()I" } : Jvm.MethodName) prog_3_method_104_code (6 : Nat) (Option.some Jvm.ClassFile.FieldType.int)) ∈ lw_all := lw_g (lw_at lw_m1 173 rfl) rfl
theorem q371 : (Jvm.Cond.methodLink "CoreSyntax$Syntax" (90 : Nat) ({ cls := "CoreSyntax$Syntax", name := "kind", desc := "()I" } : Jvm.MethodName)) ∈ lw_all := lw_g (lw_at lw_m1 174 rfl) rfl
theorem q372 : (Jvm.Cond.privateMethod ({ cls := "CoreSyntax$Syntax", name := "kind", desc := "()I" } : Jvm.MethodName)) ∈ lw_tbl := lw_at lw_m1 175 rfl
theorem q373 : (Jvm.Cond.instanceMethod ({ cls := "CoreSyntax$Syntax", name := "kind", desc := "()I" } : Jvm.MethodName)) ∈ lw_all := lw_g (lw_at lw_m1 176 rfl) rfl
theorem q374 : (Jvm.Cond.code ({ cls := "CoreSyntax$Syntax", name := "kind", desc := "()I" } : Jvm.MethodName) prog_3_method_7_code (1 : Nat) (Option.some Jvm.ClassFile.FieldType.int)) ∈ lw_all := lw_g (lw_at lw_m1 177 rfl) rfl
theorem q375 : (Jvm.Cond.methodLink "CoreSyntax$Syntax" (117 : Nat) ({ cls := "CoreSyntax$Syntax", name := "takes", desc := "(I)Z" } : Jvm.MethodName)) ∈ lw_all := lw_g (lw_at lw_m1 178 rfl) rfl
theorem q376 : (Jvm.Cond.privateMethod ({ cls := "CoreSyntax$Syntax", name := "takes", desc := "(I)Z" } : Jvm.MethodName)) ∈ lw_tbl := lw_at lw_m1 179 rfl
theorem q377 : (Jvm.Cond.instanceMethod ({ cls := "CoreSyntax$Syntax", name := "takes", desc := "(I)Z" } : Jvm.MethodName)) ∈ lw_all := lw_g (lw_at lw_m1 180 rfl) rfl
theorem q378 : (Jvm.Cond.code ({ cls := "CoreSyntax$Syntax", name := "takes", desc := "(I)Z" } : Jvm.MethodName) prog_3_method_16_code (2 : Nat) (Option.some Jvm.ClassFile.FieldType.boolean)) ∈ lw_all := lw_g (lw_at lw_m1 181 rfl) rfl
theorem q379 : (Jvm.Cond.methodLink "CoreSyntax$Syntax" (114 : Nat) ({ cls := "CoreSyntax$Syntax", name := "isSign", desc := "(I)Z" } : Jvm.MethodName)) ∈ lw_all := lw_g (lw_at lw_m1 182 rfl) rfl
theorem q380 : (Jvm.Cond.privateMethod ({ cls := "CoreSyntax$Syntax", name := "isSign", desc := "(I)Z" } : Jvm.MethodName)) ∈ lw_tbl := lw_at lw_m1 183 rfl
theorem q381 : (Jvm.Cond.instanceMethod ({ cls := "CoreSyntax$Syntax", name := "isSign", desc := "(I)Z" } : Jvm.MethodName)) ∈ lw_all := lw_g (lw_at lw_m1 184 rfl) rfl
theorem q382 : (Jvm.Cond.code ({ cls := "CoreSyntax$Syntax", name := "isSign", desc := "(I)Z" } : Jvm.MethodName) prog_3_method_10_code (2 : Nat) (Option.some Jvm.ClassFile.FieldType.boolean)) ∈ lw_all := lw_g (lw_at lw_m1 185 rfl) rfl
theorem q383 : (Jvm.Cond.methodLink "CoreSyntax$Syntax" (94 : Nat) ({ cls := "CoreSyntax$Syntax", name := "value", desc := "()I" } : Jvm.MethodName)) ∈ lw_all := lw_g (lw_at lw_m1 186 rfl) rfl
theorem q384 : (Jvm.Cond.privateMethod ({ cls := "CoreSyntax$Syntax", name := "value", desc := "()I" } : Jvm.MethodName)) ∈ lw_tbl := lw_at lw_m1 187 rfl
theorem q385 : (Jvm.Cond.instanceMethod ({ cls := "CoreSyntax$Syntax", name := "value", desc := "()I" } : Jvm.MethodName)) ∈ lw_all := lw_g (lw_at lw_m1 188 rfl) rfl
theorem q386 : (Jvm.Cond.code ({ cls := "CoreSyntax$Syntax", name := "value", desc := "()I" } : Jvm.MethodName) prog_3_method_9_code (1 : Nat) (Option.some Jvm.ClassFile.FieldType.int)) ∈ lw_all := lw_g (lw_at lw_m1 189 rfl) rfl
theorem q387 : (Jvm.Cond.methodLink "CoreSyntax$Syntax" (338 : Nat) ({ cls := "CoreSyntax$Syntax", name := "beginsDec", desc := "()Z" } : Jvm.MethodName)) ∈ lw_all := lw_g (lw_at lw_m1 190 rfl) rfl
theorem q388 : (Jvm.Cond.privateMethod ({ cls := "CoreSyntax$Syntax", name := "beginsDec", desc := "()Z" } : Jvm.MethodName)) ∈ lw_tbl := lw_at lw_m1 191 rfl
theorem q389 : (Jvm.Cond.instanceMethod ({ cls := "CoreSyntax$Syntax", name := "beginsDec", desc := "()Z" } : Jvm.MethodName)) ∈ lw_all := lw_g (lw_at lw_m1 192 rfl) rfl
theorem q390 : (Jvm.Cond.code ({ cls := "CoreSyntax$Syntax", name := "beginsDec", desc := "()Z" } : Jvm.MethodName) prog_3_method_77_code (1 : Nat) (Option.some Jvm.ClassFile.FieldType.boolean)) ∈ lw_all := lw_g (lw_at lw_m1 193 rfl) rfl
theorem q391 : (Jvm.Cond.methodLink "CoreSyntax$Syntax" (341 : Nat) ({ cls := "CoreSyntax$Syntax", name := "dec", desc := "()V" } : Jvm.MethodName)) ∈ lw_all := lw_g (lw_at lw_m1 194 rfl) rfl
theorem q392 : (Jvm.Cond.privateMethod ({ cls := "CoreSyntax$Syntax", name := "dec", desc := "()V" } : Jvm.MethodName)) ∈ lw_tbl := lw_at lw_m1 195 rfl
theorem q393 : (Jvm.Cond.instanceMethod ({ cls := "CoreSyntax$Syntax", name := "dec", desc := "()V" } : Jvm.MethodName)) ∈ lw_all := lw_g (lw_at lw_m1 196 rfl) rfl
theorem q394 : (Jvm.Cond.code ({ cls := "CoreSyntax$Syntax", name := "dec", desc := "()V" } : Jvm.MethodName) prog_3_method_79_code (3 : Nat) (Option.none : Option Jvm.ClassFile.FieldType)) ∈ lw_all := lw_g (lw_at lw_m1 197 rfl) rfl
theorem q395 : (Jvm.Cond.methodLink "CoreSyntax$Syntax" (223 : Nat) ({ cls := "CoreSyntax$Syntax", name := "enter", desc := "()V" } : Jvm.MethodName)) ∈ lw_all := lw_g (lw_at lw_m1 198 rfl) rfl
theorem q396 : (Jvm.Cond.privateMethod ({ cls := "CoreSyntax$Syntax", name := "enter", desc := "()V" } : Jvm.MethodName)) ∈ lw_tbl := lw_at lw_m1 199 rfl
theorem q397 : (Jvm.Cond.instanceMethod ({ cls := "CoreSyntax$Syntax", name := "enter", desc := "()V" } : Jvm.MethodName)) ∈ lw_all := lw_g (lw_at lw_m1 200 rfl) rfl
theorem q398 : (Jvm.Cond.code ({ cls := "CoreSyntax$Syntax", name := "enter", desc := "()V" } : Jvm.MethodName) prog_3_method_18_code (1 : Nat) (Option.none : Option Jvm.ClassFile.FieldType)) ∈ lw_all := lw_g (lw_at lw_m1 201 rfl) rfl
theorem q399 : (Jvm.Cond.methodLink "CoreSyntax$Syntax" (120 : Nat) ({ cls := "CoreSyntax$Syntax", name := "must", desc := "(ZI)V" } : Jvm.MethodName)) ∈ lw_all := lw_g (lw_at lw_m1 202 rfl) rfl
theorem q400 : (Jvm.Cond.privateMethod ({ cls := "CoreSyntax$Syntax", name := "must", desc := "(ZI)V" } : Jvm.MethodName)) ∈ lw_tbl := lw_at lw_m1 203 rfl
theorem q401 : (Jvm.Cond.instanceMethod ({ cls := "CoreSyntax$Syntax", name := "must", desc := "(ZI)V" } : Jvm.MethodName)) ∈ lw_all := lw_g (lw_at lw_m1 204 rfl) rfl
theorem q402 : (Jvm.Cond.code ({ cls := "CoreSyntax$Syntax", name := "must", desc := "(ZI)V" } : Jvm.MethodName) prog_3_method_15_code (3 : Nat) (Option.none : Option Jvm.ClassFile.FieldType)) ∈ lw_all := lw_g (lw_at lw_m1 205 rfl) rfl
theorem q403 : (Jvm.Cond.methodLink "CoreSyntax$Syntax" (111 : Nat) ({ cls := "CoreSyntax$Syntax", name := "fault", desc := "(I)I" } : Jvm.MethodName)) ∈ lw_all := lw_g (lw_at lw_m1 206 rfl) rfl
theorem q404 : (Jvm.Cond.privateMethod ({ cls := "CoreSyntax$Syntax", name := "fault", desc := "(I)I" } : Jvm.MethodName)) ∈ lw_tbl := lw_at lw_m1 207 rfl
theorem q405 : (Jvm.Cond.instanceMethod ({ cls := "CoreSyntax$Syntax", name := "fault", desc := "(I)I" } : Jvm.MethodName)) ∈ lw_all := lw_g (lw_at lw_m1 208 rfl) rfl
theorem q406 : (Jvm.Cond.code ({ cls := "CoreSyntax$Syntax", name := "fault", desc := "(I)I" } : Jvm.MethodName) prog_3_method_14_code (2 : Nat) (Option.some Jvm.ClassFile.FieldType.int)) ∈ lw_all := lw_g (lw_at lw_m1 209 rfl) rfl
theorem q445 : (Jvm.Cond.methodLink "CoreSyntax$Syntax" (110 : Nat) ({ cls := "java/lang/IllegalStateException", name := "<init>", desc := "()V" } : Jvm.MethodName)) ∈ lw_all := lw_g (lw_at lw_m2 8 rfl) rfl
theorem q467 : (Jvm.Cond.methodLink "CoreSyntax$Syntax" (344 : Nat) ({ cls := "CoreSyntax$Syntax", name := "valDec", desc := "(I)I" } : Jvm.MethodName)) ∈ lw_all := lw_g (lw_at lw_m2 30 rfl) rfl
theorem q468 : (Jvm.Cond.privateMethod ({ cls := "CoreSyntax$Syntax", name := "valDec", desc := "(I)I" } : Jvm.MethodName)) ∈ lw_tbl := lw_at lw_m2 31 rfl
theorem q469 : (Jvm.Cond.instanceMethod ({ cls := "CoreSyntax$Syntax", name := "valDec", desc := "(I)I" } : Jvm.MethodName)) ∈ lw_all := lw_g (lw_at lw_m2 32 rfl) rfl
theorem q470 : (Jvm.Cond.code ({ cls := "CoreSyntax$Syntax", name := "valDec", desc := "(I)I" } : Jvm.MethodName) prog_3_method_80_code (9 : Nat) (Option.some Jvm.ClassFile.FieldType.int)) ∈ lw_all := lw_g (lw_at lw_m2 33 rfl) rfl
theorem q471 : (Jvm.Cond.methodLink "CoreSyntax$Syntax" (371 : Nat) ({ cls := "CoreSyntax$Syntax", name := "typeVariables", desc := "(Z)I" } : Jvm.MethodName)) ∈ lw_all := lw_g (lw_at lw_m2 34 rfl) rfl
theorem q472 : (Jvm.Cond.privateMethod ({ cls := "CoreSyntax$Syntax", name := "typeVariables", desc := "(Z)I" } : Jvm.MethodName)) ∈ lw_tbl := lw_at lw_m2 35 rfl
theorem q473 : (Jvm.Cond.instanceMethod ({ cls := "CoreSyntax$Syntax", name := "typeVariables", desc := "(Z)I" } : Jvm.MethodName)) ∈ lw_all := lw_g (lw_at lw_m2 36 rfl) rfl
theorem q474 : (Jvm.Cond.code ({ cls := "CoreSyntax$Syntax", name := "typeVariables", desc := "(Z)I" } : Jvm.MethodName) prog_3_method_76_code (3 : Nat) (Option.some Jvm.ClassFile.FieldType.int)) ∈ lw_all := lw_g (lw_at lw_m2 37 rfl) rfl
theorem q475 : (Jvm.Cond.methodLink "CoreSyntax$Syntax" (326 : Nat) ({ cls := "CoreSyntax$Syntax", name := "typeVariable", desc := "()I" } : Jvm.MethodName)) ∈ lw_all := lw_g (lw_at lw_m2 38 rfl) rfl
theorem q476 : (Jvm.Cond.privateMethod ({ cls := "CoreSyntax$Syntax", name := "typeVariable", desc := "()I" } : Jvm.MethodName)) ∈ lw_tbl := lw_at lw_m2 39 rfl
theorem q477 : (Jvm.Cond.instanceMethod ({ cls := "CoreSyntax$Syntax", name := "typeVariable", desc := "()I" } : Jvm.MethodName)) ∈ lw_all := lw_g (lw_at lw_m2 40 rfl) rfl
theorem q478 : (Jvm.Cond.code ({ cls := "CoreSyntax$Syntax", name := "typeVariable", desc := "()I" } : Jvm.MethodName) prog_3_method_73_code (1 : Nat) (Option.some Jvm.ClassFile.FieldType.int)) ∈ lw_all := lw_g (lw_at lw_m2 41 rfl) rfl
theorem q479 : (Jvm.Cond.methodLink "CoreSyntax$Syntax" (130 : Nat) ({ cls := "CoreSyntax$Syntax", name := "make", desc := "(IIIII)I" } : Jvm.MethodName)) ∈ lw_all := lw_g (lw_at lw_m2 42 rfl) rfl
theorem q480 : (Jvm.Cond.privateMethod ({ cls := "CoreSyntax$Syntax", name := "make", desc := "(IIIII)I" } : Jvm.MethodName)) ∈ lw_tbl := lw_at lw_m2 43 rfl
theorem q481 : (Jvm.Cond.instanceMethod ({ cls := "CoreSyntax$Syntax", name := "make", desc := "(IIIII)I" } : Jvm.MethodName)) ∈ lw_all := lw_g (lw_at lw_m2 44 rfl) rfl
theorem q482 : (Jvm.Cond.code ({ cls := "CoreSyntax$Syntax", name := "make", desc := "(IIIII)I" } : Jvm.MethodName) prog_3_method_19_code (6 : Nat) (Option.some Jvm.ClassFile.FieldType.int)) ∈ lw_all := lw_g (lw_at lw_m2 45 rfl) rfl
theorem q483 : (Jvm.Cond.methodLink "CoreSyntax$Syntax" (138 : Nat) ({ cls := "CoreSyntax$Syntax", name := "single", desc := "(I)I" } : Jvm.MethodName)) ∈ lw_all := lw_g (lw_at lw_m2 46 rfl) rfl
theorem q484 : (Jvm.Cond.privateMethod ({ cls := "CoreSyntax$Syntax", name := "single", desc := "(I)I" } : Jvm.MethodName)) ∈ lw_tbl := lw_at lw_m2 47 rfl
theorem q485 : (Jvm.Cond.instanceMethod ({ cls := "CoreSyntax$Syntax", name := "single", desc := "(I)I" } : Jvm.MethodName)) ∈ lw_all := lw_g (lw_at lw_m2 48 rfl) rfl
theorem q486 : (Jvm.Cond.code ({ cls := "CoreSyntax$Syntax", name := "single", desc := "(I)I" } : Jvm.MethodName) prog_3_method_21_code (2 : Nat) (Option.some Jvm.ClassFile.FieldType.int)) ∈ lw_all := lw_g (lw_at lw_m2 49 rfl) rfl
theorem q487 : (Jvm.Cond.methodLink "CoreSyntax$Syntax" (97 : Nat) ({ cls := "CoreSyntax$Syntax", name := "kindBehind", desc := "(I)I" } : Jvm.MethodName)) ∈ lw_all := lw_g (lw_at lw_m2 50 rfl) rfl
theorem q488 : (Jvm.Cond.privateMethod ({ cls := "CoreSyntax$Syntax", name := "kindBehind", desc := "(I)I" } : Jvm.MethodName)) ∈ lw_tbl := lw_at lw_m2 51 rfl
theorem q489 : (Jvm.Cond.instanceMethod ({ cls := "CoreSyntax$Syntax", name := "kindBehind", desc := "(I)I" } : Jvm.MethodName)) ∈ lw_all := lw_g (lw_at lw_m2 52 rfl) rfl
theorem q490 : (Jvm.Cond.code ({ cls := "CoreSyntax$Syntax", name := "kindBehind", desc := "(I)I" } : Jvm.MethodName) prog_3_method_8_code (2 : Nat) (Option.some Jvm.ClassFile.FieldType.int)) ∈ lw_all := lw_g (lw_at lw_m2 53 rfl) rfl
theorem q491 : (Jvm.Cond.methodLink "CoreSyntax$Syntax" (238 : Nat) ({ cls := "CoreSyntax$Syntax", name := "need", desc := "(I)V" } : Jvm.MethodName)) ∈ lw_all := lw_g (lw_at lw_m2 54 rfl) rfl
theorem q492 : (Jvm.Cond.privateMethod ({ cls := "CoreSyntax$Syntax", name := "need", desc := "(I)V" } : Jvm.MethodName)) ∈ lw_tbl := lw_at lw_m2 55 rfl
theorem q493 : (Jvm.Cond.instanceMethod ({ cls := "CoreSyntax$Syntax", name := "need", desc := "(I)V" } : Jvm.MethodName)) ∈ lw_all := lw_g (lw_at lw_m2 56 rfl) rfl
theorem q494 : (Jvm.Cond.code ({ cls := "CoreSyntax$Syntax", name := "need", desc := "(I)V" } : Jvm.MethodName) prog_3_method_17_code (2 : Nat) (Option.none : Option Jvm.ClassFile.FieldType)) ∈ lw_all := lw_g (lw_at lw_m2 57 rfl) rfl
theorem q495 : (Jvm.Cond.methodLink "CoreSyntax$Syntax" (148 : Nat) ({ cls := "CoreSyntax$Syntax", name := "list", desc := "(I)I" } : Jvm.MethodName)) ∈ lw_all := lw_g (lw_at lw_m2 58 rfl) rfl
theorem q496 : (Jvm.Cond.privateMethod ({ cls := "CoreSyntax$Syntax", name := "list", desc := "(I)I" } : Jvm.MethodName)) ∈ lw_tbl := lw_at lw_m2 59 rfl
theorem q497 : (Jvm.Cond.instanceMethod ({ cls := "CoreSyntax$Syntax", name := "list", desc := "(I)I" } : Jvm.MethodName)) ∈ lw_all := lw_g (lw_at lw_m2 60 rfl) rfl
theorem q498 : (Jvm.Cond.code ({ cls := "CoreSyntax$Syntax", name := "list", desc := "(I)I" } : Jvm.MethodName) prog_3_method_20_code (4 : Nat) (Option.some Jvm.ClassFile.FieldType.int)) ∈ lw_all := lw_g (lw_at lw_m2 61 rfl) rfl
theorem q499 : (Jvm.Cond.methodLink "CoreSyntax$Syntax" (127 : Nat) ({ cls := "CoreSyntax$Row", name := "pop", desc := "()I" } : Jvm.MethodName)) ∈ lw_all := lw_g (lw_at lw_m2 62 rfl) rfl
theorem q503 : (Jvm.Cond.methodLink "CoreSyntax$Syntax" (244 : Nat) ({ cls := "CoreSyntax$Syntax", name := "pattern", desc := "()I" } : Jvm.MethodName)) ∈ lw_all := lw_g (lw_at lw_m2 66 rfl) rfl
theorem q504 : (Jvm.Cond.privateMethod ({ cls := "CoreSyntax$Syntax", name := "pattern", desc := "()I" } : Jvm.MethodName)) ∈ lw_tbl := lw_at lw_m2 67 rfl
theorem q505 : (Jvm.Cond.instanceMethod ({ cls := "CoreSyntax$Syntax", name := "pattern", desc := "()I" } : Jvm.MethodName)) ∈ lw_all := lw_g (lw_at lw_m2 68 rfl) rfl
theorem q506 : (Jvm.Cond.code ({ cls := "CoreSyntax$Syntax", name := "pattern", desc := "()I" } : Jvm.MethodName) prog_3_method_60_code (6 : Nat) (Option.some Jvm.ClassFile.FieldType.int)) ∈ lw_all := lw_g (lw_at lw_m2 69 rfl) rfl
theorem q507 : (Jvm.Cond.methodLink "CoreSyntax$Syntax" (213 : Nat) ({ cls := "CoreSyntax$Syntax", name := "infix", desc := "(Z)I" } : Jvm.MethodName)) ∈ lw_all := lw_g (lw_at lw_m2 70 rfl) rfl
theorem q508 : (Jvm.Cond.privateMethod ({ cls := "CoreSyntax$Syntax", name := "infix", desc := "(Z)I" } : Jvm.MethodName)) ∈ lw_tbl := lw_at lw_m2 71 rfl
theorem q509 : (Jvm.Cond.instanceMethod ({ cls := "CoreSyntax$Syntax", name := "infix", desc := "(Z)I" } : Jvm.MethodName)) ∈ lw_all := lw_g (lw_at lw_m2 72 rfl) rfl
theorem q510 : (Jvm.Cond.code ({ cls := "CoreSyntax$Syntax", name := "infix", desc := "(Z)I" } : Jvm.MethodName) prog_3_method_42_code (5 : Nat) (Option.some Jvm.ClassFile.FieldType.int)) ∈ lw_all := lw_g (lw_at lw_m2 73 rfl) rfl
theorem q511 : (Jvm.Cond.methodLink "CoreSyntax$Syntax" (194 : Nat) ({ cls := "CoreSyntax$Syntax", name := "applied", desc := "()I" } : Jvm.MethodName)) ∈ lw_all := lw_g (lw_at lw_m2 74 rfl) rfl
theorem q512 : (Jvm.Cond.privateMethod ({ cls := "CoreSyntax$Syntax", name := "applied", desc := "()I" } : Jvm.MethodName)) ∈ lw_tbl := lw_at lw_m2 75 rfl
theorem q513 : (Jvm.Cond.instanceMethod ({ cls := "CoreSyntax$Syntax", name := "applied", desc := "()I" } : Jvm.MethodName)) ∈ lw_all := lw_g (lw_at lw_m2 76 rfl) rfl
theorem q514 : (Jvm.Cond.code ({ cls := "CoreSyntax$Syntax", name := "applied", desc := "()I" } : Jvm.MethodName) prog_3_method_64_code (5 : Nat) (Option.some Jvm.ClassFile.FieldType.int)) ∈ lw_all := lw_g (lw_at lw_m2 77 rfl) rfl
theorem q515 : (Jvm.Cond.methodLink "CoreSyntax$Syntax" (101 : Nat) ({ cls := "CoreSyntax$Syntax", name := "isName", desc := "(I)Z" } : Jvm.MethodName)) ∈ lw_all := lw_g (lw_at lw_m2 78 rfl) rfl
theorem q516 : (Jvm.Cond.privateMethod ({ cls := "CoreSyntax$Syntax", name := "isName", desc := "(I)Z" } : Jvm.MethodName)) ∈ lw_tbl := lw_at lw_m2 79 rfl
theorem q517 : (Jvm.Cond.instanceMethod ({ cls := "CoreSyntax$Syntax", name := "isName", desc := "(I)Z" } : Jvm.MethodName)) ∈ lw_all := lw_g (lw_at lw_m2 80 rfl) rfl
theorem q518 : (Jvm.Cond.code ({ cls := "CoreSyntax$Syntax", name := "isName", desc := "(I)Z" } : Jvm.MethodName) prog_3_method_11_code (3 : Nat) (Option.some Jvm.ClassFile.FieldType.boolean)) ∈ lw_all := lw_g (lw_at lw_m2 81 rfl) rfl
theorem q519 : (Jvm.Cond.methodLink "CoreSyntax$Syntax" (305 : Nat) ({ cls := "CoreSyntax$Syntax", name := "atomicPattern", desc := "()I" } : Jvm.MethodName)) ∈ lw_all := lw_g (lw_at lw_m2 82 rfl) rfl
theorem q520 : (Jvm.Cond.privateMethod ({ cls := "CoreSyntax$Syntax", name := "atomicPattern", desc := "()I" } : Jvm.MethodName)) ∈ lw_tbl := lw_at lw_m2 83 rfl
theorem q521 : (Jvm.Cond.instanceMethod ({ cls := "CoreSyntax$Syntax", name := "atomicPattern", desc := "()I" } : Jvm.MethodName)) ∈ lw_all := lw_g (lw_at lw_m2 84 rfl) rfl
theorem q522 : (Jvm.Cond.code ({ cls := "CoreSyntax$Syntax", name := "atomicPattern", desc := "()I" } : Jvm.MethodName) prog_3_method_65_code (2 : Nat) (Option.some Jvm.ClassFile.FieldType.int)) ∈ lw_all := lw_g (lw_at lw_m2 85 rfl) rfl
theorem q523 : (Jvm.Cond.methodLink "CoreSyntax$Syntax" (247 : Nat) ({ cls := "CoreSyntax$Syntax", name := "isConstant", desc := "()Z" } : Jvm.MethodName)) ∈ lw_all := lw_g (lw_at lw_m2 86 rfl) rfl
theorem q524 : (Jvm.Cond.privateMethod ({ cls := "CoreSyntax$Syntax", name := "isConstant", desc := "()Z" } : Jvm.MethodName)) ∈ lw_tbl := lw_at lw_m2 87 rfl
theorem q525 : (Jvm.Cond.instanceMethod ({ cls := "CoreSyntax$Syntax", name := "isConstant", desc := "()Z" } : Jvm.MethodName)) ∈ lw_all := lw_g (lw_at lw_m2 88 rfl) rfl
theorem q526 : (Jvm.Cond.code ({ cls := "CoreSyntax$Syntax", name := "isConstant", desc := "()Z" } : Jvm.MethodName) prog_3_method_13_code (1 : Nat) (Option.some Jvm.ClassFile.FieldType.boolean)) ∈ lw_all := lw_g (lw_at lw_m2 89 rfl) rfl
theorem q527 : (Jvm.Cond.methodLink "CoreSyntax$Syntax" (257 : Nat) ({ cls := "CoreSyntax$Syntax", name := "identifier", desc := "(IZ)I" } : Jvm.MethodName)) ∈ lw_all := lw_g (lw_at lw_m2 90 rfl) rfl
theorem q528 : (Jvm.Cond.privateMethod ({ cls := "CoreSyntax$Syntax", name := "identifier", desc := "(IZ)I" } : Jvm.MethodName)) ∈ lw_tbl := lw_at lw_m2 91 rfl
theorem q529 : (Jvm.Cond.instanceMethod ({ cls := "CoreSyntax$Syntax", name := "identifier", desc := "(IZ)I" } : Jvm.MethodName)) ∈ lw_all := lw_g (lw_at lw_m2 92 rfl) rfl
theorem q530 : (Jvm.Cond.code ({ cls := "CoreSyntax$Syntax", name := "identifier", desc := "(IZ)I" } : Jvm.MethodName) prog_3_method_51_code (7 : Nat) (Option.some Jvm.ClassFile.FieldType.int)) ∈ lw_all := lw_g (lw_at lw_m2 93 rfl) rfl
theorem q531 : (Jvm.Cond.methodLink "CoreSyntax$Syntax" (200 : Nat) ({ cls := "CoreSyntax$Syntax", name := "isOperator", desc := "(I)Z" } : Jvm.MethodName)) ∈ lw_all := lw_g (lw_at lw_m2 94 rfl) rfl
theorem q532 : (Jvm.Cond.privateMethod ({ cls := "CoreSyntax$Syntax", name := "isOperator", desc := "(I)Z" } : Jvm.MethodName)) ∈ lw_tbl := lw_at lw_m2 95 rfl
theorem q533 : (Jvm.Cond.instanceMethod ({ cls := "CoreSyntax$Syntax", name := "isOperator", desc := "(I)Z" } : Jvm.MethodName)) ∈ lw_all := lw_g (lw_at lw_m2 96 rfl) rfl
theorem q534 : (Jvm.Cond.code ({ cls := "CoreSyntax$Syntax", name := "isOperator", desc := "(I)Z" } : Jvm.MethodName) prog_3_method_12_code (2 : Nat) (Option.some Jvm.ClassFile.FieldType.boolean)) ∈ lw_all := lw_g (lw_at lw_m2 97 rfl) rfl
theorem q535 : (Jvm.Cond.methodLink "CoreSyntax$Syntax" (311 : Nat) ({ cls := "CoreSyntax$Syntax", name := "recordPattern", desc := "()I" } : Jvm.MethodName)) ∈ lw_all := lw_g (lw_at lw_m2 98 rfl) rfl
theorem q536 : (Jvm.Cond.privateMethod ({ cls := "CoreSyntax$Syntax", name := "recordPattern", desc := "()I" } : Jvm.MethodName)) ∈ lw_tbl := lw_at lw_m2 99 rfl
theorem q537 : (Jvm.Cond.instanceMethod ({ cls := "CoreSyntax$Syntax", name := "recordPattern", desc := "()I" } : Jvm.MethodName)) ∈ lw_all := lw_g (lw_at lw_m2 100 rfl) rfl
theorem q538 : (Jvm.Cond.code ({ cls := "CoreSyntax$Syntax", name := "recordPattern", desc := "()I" } : Jvm.MethodName) prog_3_method_66_code (5 : Nat) (Option.some Jvm.ClassFile.FieldType.int)) ∈ lw_all := lw_g (lw_at lw_m2 101 rfl) rfl
theorem q539 : (Jvm.Cond.methodLink "CoreSyntax$Syntax" (314 : Nat) ({ cls := "CoreSyntax$Syntax", name := "fieldPattern", desc := "(I)V" } : Jvm.MethodName)) ∈ lw_all := lw_g (lw_at lw_m2 102 rfl) rfl
theorem q540 : (Jvm.Cond.privateMethod ({ cls := "CoreSyntax$Syntax", name := "fieldPattern", desc := "(I)V" } : Jvm.MethodName)) ∈ lw_tbl := lw_at lw_m2 103 rfl
theorem q541 : (Jvm.Cond.instanceMethod ({ cls := "CoreSyntax$Syntax", name := "fieldPattern", desc := "(I)V" } : Jvm.MethodName)) ∈ lw_all := lw_g (lw_at lw_m2 104 rfl) rfl
theorem q542 : (Jvm.Cond.code ({ cls := "CoreSyntax$Syntax", name := "fieldPattern", desc := "(I)V" } : Jvm.MethodName) prog_3_method_67_code (6 : Nat) (Option.none : Option Jvm.ClassFile.FieldType)) ∈ lw_all := lw_g (lw_at lw_m2 105 rfl) rfl
theorem q543 : (Jvm.Cond.methodLink "CoreSyntax$Syntax" (276 : Nat) ({ cls := "CoreSyntax$Syntax", name := "newLabel", desc := "(I)I" } : Jvm.MethodName)) ∈ lw_all := lw_g (lw_at lw_m2 106 rfl) rfl
theorem q544 : (Jvm.Cond.privateMethod ({ cls := "CoreSyntax$Syntax", name := "newLabel", desc := "(I)I" } : Jvm.MethodName)) ∈ lw_tbl := lw_at lw_m2 107 rfl
theorem q545 : (Jvm.Cond.instanceMethod ({ cls := "CoreSyntax$Syntax", name := "newLabel", desc := "(I)I" } : Jvm.MethodName)) ∈ lw_all := lw_g (lw_at lw_m2 108 rfl) rfl
theorem q546 : (Jvm.Cond.code ({ cls := "CoreSyntax$Syntax", name := "newLabel", desc := "(I)I" } : Jvm.MethodName) prog_3_method_38_code (5 : Nat) (Option.some Jvm.ClassFile.FieldType.int)) ∈ lw_all := lw_g (lw_at lw_m2 109 rfl) rfl
theorem q547 : (Jvm.Cond.methodLink "CoreSyntax$Syntax" (183 : Nat) ({ cls := "CoreSyntax$Syntax", name := "label", desc := "()I" } : Jvm.MethodName)) ∈ lw_all := lw_g (lw_at lw_m2 110 rfl) rfl
theorem q548 : (Jvm.Cond.privateMethod ({ cls := "CoreSyntax$Syntax", name := "label", desc := "()I" } : Jvm.MethodName)) ∈ lw_tbl := lw_at lw_m2 111 rfl
theorem q549 : (Jvm.Cond.instanceMethod ({ cls := "CoreSyntax$Syntax", name := "label", desc := "()I" } : Jvm.MethodName)) ∈ lw_all := lw_g (lw_at lw_m2 112 rfl) rfl
theorem q550 : (Jvm.Cond.code ({ cls := "CoreSyntax$Syntax", name := "label", desc := "()I" } : Jvm.MethodName) prog_3_method_36_code (3 : Nat) (Option.some Jvm.ClassFile.FieldType.int)) ∈ lw_all := lw_g (lw_at lw_m2 113 rfl) rfl
theorem q551 : (Jvm.Cond.methodLink "CoreSyntax$Syntax" (217 : Nat) ({ cls := "CoreSyntax$Syntax", name := "type", desc := "()I" } : Jvm.MethodName)) ∈ lw_all := lw_g (lw_at lw_m2 114 rfl) rfl
theorem q552 : (Jvm.Cond.privateMethod ({ cls := "CoreSyntax$Syntax", name := "type", desc := "()I" } : Jvm.MethodName)) ∈ lw_tbl := lw_at lw_m2 115 rfl
theorem q553 : (Jvm.Cond.instanceMethod ({ cls := "CoreSyntax$Syntax", name := "type", desc := "()I" } : Jvm.MethodName)) ∈ lw_all := lw_g (lw_at lw_m2 116 rfl) rfl
theorem q554 : (Jvm.Cond.code ({ cls := "CoreSyntax$Syntax", name := "type", desc := "()I" } : Jvm.MethodName) prog_3_method_69_code (6 : Nat) (Option.some Jvm.ClassFile.FieldType.int)) ∈ lw_all := lw_g (lw_at lw_m2 117 rfl) rfl
theorem q555 : (Jvm.Cond.methodLink "CoreSyntax$Syntax" (317 : Nat) ({ cls := "CoreSyntax$Syntax", name := "product", desc := "()I" } : Jvm.MethodName)) ∈ lw_all := lw_g (lw_at lw_m2 118 rfl) rfl
theorem q556 : (Jvm.Cond.privateMethod ({ cls := "CoreSyntax$Syntax", name := "product", desc := "()I" } : Jvm.MethodName)) ∈ lw_tbl := lw_at lw_m2 119 rfl
theorem q557 : (Jvm.Cond.instanceMethod ({ cls := "CoreSyntax$Syntax", name := "product", desc := "()I" } : Jvm.MethodName)) ∈ lw_all := lw_g (lw_at lw_m2 120 rfl) rfl
theorem q558 : (Jvm.Cond.code ({ cls := "CoreSyntax$Syntax", name := "product", desc := "()I" } : Jvm.MethodName) prog_3_method_70_code (3 : Nat) (Option.some Jvm.ClassFile.FieldType.int)) ∈ lw_all := lw_g (lw_at lw_m2 121 rfl) rfl
theorem q559 : (Jvm.Cond.methodLink "CoreSyntax$Syntax" (320 : Nat) ({ cls := "CoreSyntax$Syntax", name := "constructed", desc := "()I" } : Jvm.MethodName)) ∈ lw_all := lw_g (lw_at lw_m2 122 rfl) rfl
theorem q560 : (Jvm.Cond.privateMethod ({ cls := "CoreSyntax$Syntax", name := "constructed", desc := "()I" } : Jvm.MethodName)) ∈ lw_tbl := lw_at lw_m2 123 rfl
theorem q561 : (Jvm.Cond.instanceMethod ({ cls := "CoreSyntax$Syntax", name := "constructed", desc := "()I" } : Jvm.MethodName)) ∈ lw_all := lw_g (lw_at lw_m2 124 rfl) rfl
theorem q562 : (Jvm.Cond.code ({ cls := "CoreSyntax$Syntax", name := "constructed", desc := "()I" } : Jvm.MethodName) prog_3_method_72_code (3 : Nat) (Option.some Jvm.ClassFile.FieldType.int)) ∈ lw_all := lw_g (lw_at lw_m2 125 rfl) rfl
theorem q563 : (Jvm.Cond.methodLink "CoreSyntax$Syntax" (329 : Nat) ({ cls := "CoreSyntax$Syntax", name := "recordType", desc := "()I" } : Jvm.MethodName)) ∈ lw_all := lw_g (lw_at lw_m2 126 rfl) rfl
theorem q564 : (Jvm.Cond.privateMethod ({ cls := "CoreSyntax$Syntax", name := "recordType", desc := "()I" } : Jvm.MethodName)) ∈ lw_tbl := lw_at lw_m2 127 rfl
theorem q565 : (Jvm.Cond.instanceMethod ({ cls := "CoreSyntax$Syntax", name := "recordType", desc := "()I" } : Jvm.MethodName)) ∈ lw_all := lw_g (lw_at lw_m2 128 rfl) rfl
theorem q566 : (Jvm.Cond.code ({ cls := "CoreSyntax$Syntax", name := "recordType", desc := "()I" } : Jvm.MethodName) prog_3_method_75_code (7 : Nat) (Option.some Jvm.ClassFile.FieldType.int)) ∈ lw_all := lw_g (lw_at lw_m2 129 rfl) rfl
theorem q567 : (Jvm.Cond.methodLink "CoreSyntax$Syntax" (279 : Nat) ({ cls := "CoreSyntax$Syntax", name := "field", desc := "(IIIII)V" } : Jvm.MethodName)) ∈ lw_all := lw_g (lw_at lw_m2 130 rfl) rfl
theorem q568 : (Jvm.Cond.privateMethod ({ cls := "CoreSyntax$Syntax", name := "field", desc := "(IIIII)V" } : Jvm.MethodName)) ∈ lw_tbl := lw_at lw_m2 131 rfl
theorem q569 : (Jvm.Cond.instanceMethod ({ cls := "CoreSyntax$Syntax", name := "field", desc := "(IIIII)V" } : Jvm.MethodName)) ∈ lw_all := lw_g (lw_at lw_m2 132 rfl) rfl
theorem q570 : (Jvm.Cond.code ({ cls := "CoreSyntax$Syntax", name := "field", desc := "(IIIII)V" } : Jvm.MethodName) prog_3_method_39_code (7 : Nat) (Option.none : Option Jvm.ClassFile.FieldType)) ∈ lw_all := lw_g (lw_at lw_m2 133 rfl) rfl
theorem q571 : (Jvm.Cond.methodLink "CoreSyntax$Syntax" (186 : Nat) ({ cls := "CoreSyntax$Syntax", name := "isBefore", desc := "(II)Z" } : Jvm.MethodName)) ∈ lw_all := lw_g (lw_at lw_m2 134 rfl) rfl
theorem q572 : (Jvm.Cond.static ({ cls := "CoreSyntax$Syntax", name := "isBefore", desc := "(II)Z" } : Jvm.MethodName)) ∈ lw_all := lw_g (lw_at lw_m2 135 rfl) rfl
theorem q573 : (Jvm.Cond.code ({ cls := "CoreSyntax$Syntax", name := "isBefore", desc := "(II)Z" } : Jvm.MethodName) prog_3_method_37_code (2 : Nat) (Option.some Jvm.ClassFile.FieldType.boolean)) ∈ lw_all := lw_g (lw_at lw_m2 136 rfl) rfl
theorem q574 : (Jvm.Cond.methodLink "CoreSyntax$Syntax" (190 : Nat) ({ cls := "CoreSyntax$Row", name := "swap", desc := "(II)V" } : Jvm.MethodName)) ∈ lw_all := lw_g (lw_at lw_m2 137 rfl) rfl
theorem q578 : (Jvm.Cond.methodLink "CoreSyntax$Syntax" (332 : Nat) ({ cls := "CoreSyntax$Syntax", name := "bracketedType", desc := "()I" } : Jvm.MethodName)) ∈ lw_all := lw_g (lw_at lw_m2 141 rfl) rfl
theorem q579 : (Jvm.Cond.privateMethod ({ cls := "CoreSyntax$Syntax", name := "bracketedType", desc := "()I" } : Jvm.MethodName)) ∈ lw_tbl := lw_at lw_m2 142 rfl
theorem q580 : (Jvm.Cond.instanceMethod ({ cls := "CoreSyntax$Syntax", name := "bracketedType", desc := "()I" } : Jvm.MethodName)) ∈ lw_all := lw_g (lw_at lw_m2 143 rfl) rfl
theorem q581 : (Jvm.Cond.code ({ cls := "CoreSyntax$Syntax", name := "bracketedType", desc := "()I" } : Jvm.MethodName) prog_3_method_74_code (3 : Nat) (Option.some Jvm.ClassFile.FieldType.int)) ∈ lw_all := lw_g (lw_at lw_m2 144 rfl) rfl
theorem q582 : (Jvm.Cond.methodLink "CoreSyntax$Syntax" (335 : Nat) ({ cls := "CoreSyntax$Syntax", name := "tycon", desc := "(II)I" } : Jvm.MethodName)) ∈ lw_all := lw_g (lw_at lw_m2 145 rfl) rfl
theorem q583 : (Jvm.Cond.privateMethod ({ cls := "CoreSyntax$Syntax", name := "tycon", desc := "(II)I" } : Jvm.MethodName)) ∈ lw_tbl := lw_at lw_m2 146 rfl
theorem q584 : (Jvm.Cond.instanceMethod ({ cls := "CoreSyntax$Syntax", name := "tycon", desc := "(II)I" } : Jvm.MethodName)) ∈ lw_all := lw_g (lw_at lw_m2 147 rfl) rfl
theorem q585 : (Jvm.Cond.code ({ cls := "CoreSyntax$Syntax", name := "tycon", desc := "(II)I" } : Jvm.MethodName) prog_3_method_71_code (5 : Nat) (Option.some Jvm.ClassFile.FieldType.int)) ∈ lw_all := lw_g (lw_at lw_m2 148 rfl) rfl
theorem q586 : (Jvm.Cond.methodLink "CoreSyntax$Syntax" (323 : Nat) ({ cls := "CoreSyntax$Syntax", name := "isTycon", desc := "()Z" } : Jvm.MethodName)) ∈ lw_all := lw_g (lw_at lw_m2 149 rfl) rfl
theorem q587 : (Jvm.Cond.privateMethod ({ cls := "CoreSyntax$Syntax", name := "isTycon", desc := "()Z" } : Jvm.MethodName)) ∈ lw_tbl := lw_at lw_m2 150 rfl
theorem q588 : (Jvm.Cond.instanceMethod ({ cls := "CoreSyntax$Syntax", name := "isTycon", desc := "()Z" } : Jvm.MethodName)) ∈ lw_all := lw_g (lw_at lw_m2 151 rfl) rfl
theorem q589 : (Jvm.Cond.code ({ cls := "CoreSyntax$Syntax", name := "isTycon", desc := "()Z" } : Jvm.MethodName) prog_3_method_68_code (1 : Nat) (Option.some Jvm.ClassFile.FieldType.boolean)) ∈ lw_all := lw_g (lw_at lw_m2 152 rfl) rfl
theorem q590 : (Jvm.Cond.methodLink "CoreSyntax$Syntax" (151 : Nat) ({ cls := "CoreSyntax$Syntax", name := "tuple", desc := "(IIII)I" } : Jvm.MethodName)) ∈ lw_all := lw_g (lw_at lw_m2 153 rfl) rfl
theorem q591 : (Jvm.Cond.privateMethod ({ cls := "CoreSyntax$Syntax", name := "tuple", desc := "(IIII)I" } : Jvm.MethodName)) ∈ lw_tbl := lw_at lw_m2 154 rfl
theorem q592 : (Jvm.Cond.instanceMethod ({ cls := "CoreSyntax$Syntax", name := "tuple", desc := "(IIII)I" } : Jvm.MethodName)) ∈ lw_all := lw_g (lw_at lw_m2 155 rfl) rfl
theorem q593 : (Jvm.Cond.code ({ cls := "CoreSyntax$Syntax", name := "tuple", desc := "(IIII)I" } : Jvm.MethodName) prog_3_method_29_code (6 : Nat) (Option.some Jvm.ClassFile.FieldType.int)) ∈ lw_all := lw_g (lw_at lw_m2 156 rfl) rfl
theorem q594 : (Jvm.Cond.methodLink "CoreSyntax$Syntax" (299 : Nat) ({ cls := "CoreSyntax$Syntax", name := "layer", desc := "(III)I" } : Jvm.MethodName)) ∈ lw_all := lw_g (lw_at lw_m2 157 rfl) rfl
theorem q595 : (Jvm.Cond.privateMethod ({ cls := "CoreSyntax$Syntax", name := "layer", desc := "(III)I" } : Jvm.MethodName)) ∈ lw_tbl := lw_at lw_m2 158 rfl
theorem q596 : (Jvm.Cond.instanceMethod ({ cls := "CoreSyntax$Syntax", name := "layer", desc := "(III)I" } : Jvm.MethodName)) ∈ lw_all := lw_g (lw_at lw_m2 159 rfl) rfl
theorem q597 : (Jvm.Cond.code ({ cls := "CoreSyntax$Syntax", name := "layer", desc := "(III)I" } : Jvm.MethodName) prog_3_method_62_code (5 : Nat) (Option.some Jvm.ClassFile.FieldType.int)) ∈ lw_all := lw_g (lw_at lw_m2 160 rfl) rfl
theorem q598 : (Jvm.Cond.methodLink "CoreSyntax$Syntax" (302 : Nat) ({ cls := "CoreSyntax$Syntax", name := "isProtected", desc := "(I)Z" } : Jvm.MethodName)) ∈ lw_all := lw_g (lw_at lw_m2 161 rfl) rfl
theorem q599 : (Jvm.Cond.static ({ cls := "CoreSyntax$Syntax", name := "isProtected", desc := "(I)Z" } : Jvm.MethodName)) ∈ lw_all := lw_g (lw_at lw_m2 162 rfl) rfl
theorem q600 : (Jvm.Cond.code ({ cls := "CoreSyntax$Syntax", name := "isProtected", desc := "(I)Z" } : Jvm.MethodName) prog_3_method_59_code (1 : Nat) (Option.some Jvm.ClassFile.FieldType.boolean)) ∈ lw_all := lw_g (lw_at lw_m2 163 rfl) rfl
theorem q601 : (Jvm.Cond.methodLink "CoreSyntax$Syntax" (155 : Nat) ({ cls := "CoreSyntax$Syntax", name := "variable", desc := "(II)I" } : Jvm.MethodName)) ∈ lw_all := lw_g (lw_at lw_m2 164 rfl) rfl
theorem q602 : (Jvm.Cond.privateMethod ({ cls := "CoreSyntax$Syntax", name := "variable", desc := "(II)I" } : Jvm.MethodName)) ∈ lw_tbl := lw_at lw_m2 165 rfl
theorem q603 : (Jvm.Cond.instanceMethod ({ cls := "CoreSyntax$Syntax", name := "variable", desc := "(II)I" } : Jvm.MethodName)) ∈ lw_all := lw_g (lw_at lw_m2 166 rfl) rfl
theorem q604 : (Jvm.Cond.code ({ cls := "CoreSyntax$Syntax", name := "variable", desc := "(II)I" } : Jvm.MethodName) prog_3_method_23_code (3 : Nat) (Option.some Jvm.ClassFile.FieldType.int)) ∈ lw_all := lw_g (lw_at lw_m2 167 rfl) rfl
theorem q605 : (Jvm.Cond.methodLink "CoreSyntax$Syntax" (267 : Nat) ({ cls := "CoreSyntax$Syntax", name := "brackets", desc := "(Z)I" } : Jvm.MethodName)) ∈ lw_all := lw_g (lw_at lw_m2 168 rfl) rfl
theorem q606 : (Jvm.Cond.privateMethod ({ cls := "CoreSyntax$Syntax", name := "brackets", desc := "(Z)I" } : Jvm.MethodName)) ∈ lw_tbl := lw_at lw_m2 169 rfl
theorem q607 : (Jvm.Cond.instanceMethod ({ cls := "CoreSyntax$Syntax", name := "brackets", desc := "(Z)I" } : Jvm.MethodName)) ∈ lw_all := lw_g (lw_at lw_m2 170 rfl) rfl
theorem q608 : (Jvm.Cond.code ({ cls := "CoreSyntax$Syntax", name := "brackets", desc := "(Z)I" } : Jvm.MethodName) prog_3_method_56_code (6 : Nat) (Option.some Jvm.ClassFile.FieldType.int)) ∈ lw_all := lw_g (lw_at lw_m2 171 rfl) rfl
theorem q609 : (Jvm.Cond.methodLink "CoreSyntax$Syntax" (283 : Nat) ({ cls := "CoreSyntax$Syntax", name := "inner", desc := "(Z)I" } : Jvm.MethodName)) ∈ lw_all := lw_g (lw_at lw_m2 172 rfl) rfl
theorem q610 : (Jvm.Cond.privateMethod ({ cls := "CoreSyntax$Syntax", name := "inner", desc := "(Z)I" } : Jvm.MethodName)) ∈ lw_tbl := lw_at lw_m2 173 rfl
theorem q611 : (Jvm.Cond.instanceMethod ({ cls := "CoreSyntax$Syntax", name := "inner", desc := "(Z)I" } : Jvm.MethodName)) ∈ lw_all := lw_g (lw_at lw_m2 174 rfl) rfl
theorem q612 : (Jvm.Cond.code ({ cls := "CoreSyntax$Syntax", name := "inner", desc := "(Z)I" } : Jvm.MethodName) prog_3_method_55_code (2 : Nat) (Option.some Jvm.ClassFile.FieldType.int)) ∈ lw_all := lw_g (lw_at lw_m2 175 rfl) rfl
theorem q613 : (Jvm.Cond.methodLink "CoreSyntax$Syntax" (220 : Nat) ({ cls := "CoreSyntax$Syntax", name := "exp", desc := "(I)I" } : Jvm.MethodName)) ∈ lw_all := lw_g (lw_at lw_m2 176 rfl) rfl
theorem q614 : (Jvm.Cond.privateMethod ({ cls := "CoreSyntax$Syntax", name := "exp", desc := "(I)I" } : Jvm.MethodName)) ∈ lw_tbl := lw_at lw_m2 177 rfl
theorem q615 : (Jvm.Cond.instanceMethod ({ cls := "CoreSyntax$Syntax", name := "exp", desc := "(I)I" } : Jvm.MethodName)) ∈ lw_all := lw_g (lw_at lw_m2 178 rfl) rfl
theorem q616 : (Jvm.Cond.code ({ cls := "CoreSyntax$Syntax", name := "exp", desc := "(I)I" } : Jvm.MethodName) prog_3_method_43_code (5 : Nat) (Option.some Jvm.ClassFile.FieldType.int)) ∈ lw_all := lw_g (lw_at lw_m2 179 rfl) rfl
theorem q617 : (Jvm.Cond.methodLink "CoreSyntax$Syntax" (210 : Nat) ({ cls := "CoreSyntax$Syntax", name := "form", desc := "()I" } : Jvm.MethodName)) ∈ lw_all := lw_g (lw_at lw_m2 180 rfl) rfl
theorem q618 : (Jvm.Cond.privateMethod ({ cls := "CoreSyntax$Syntax", name := "form", desc := "()I" } : Jvm.MethodName)) ∈ lw_tbl := lw_at lw_m2 181 rfl
theorem q619 : (Jvm.Cond.instanceMethod ({ cls := "CoreSyntax$Syntax", name := "form", desc := "()I" } : Jvm.MethodName)) ∈ lw_all := lw_g (lw_at lw_m2 182 rfl) rfl
theorem q620 : (Jvm.Cond.code ({ cls := "CoreSyntax$Syntax", name := "form", desc := "()I" } : Jvm.MethodName) prog_3_method_44_code (4 : Nat) (Option.some Jvm.ClassFile.FieldType.int)) ∈ lw_all := lw_g (lw_at lw_m2 183 rfl) rfl
theorem q621 : (Jvm.Cond.methodLink "CoreSyntax$Syntax" (226 : Nat) ({ cls := "CoreSyntax$Syntax", name := "match", desc := "()I" } : Jvm.MethodName)) ∈ lw_all := lw_g (lw_at lw_m2 184 rfl) rfl
theorem q622 : (Jvm.Cond.privateMethod ({ cls := "CoreSyntax$Syntax", name := "match", desc := "()I" } : Jvm.MethodName)) ∈ lw_tbl := lw_at lw_m2 185 rfl
theorem q623 : (Jvm.Cond.instanceMethod ({ cls := "CoreSyntax$Syntax", name := "match", desc := "()I" } : Jvm.MethodName)) ∈ lw_all := lw_g (lw_at lw_m2 186 rfl) rfl
theorem q624 : (Jvm.Cond.code ({ cls := "CoreSyntax$Syntax", name := "match", desc := "()I" } : Jvm.MethodName) prog_3_method_48_code (5 : Nat) (Option.some Jvm.ClassFile.FieldType.int)) ∈ lw_all := lw_g (lw_at lw_m2 187 rfl) rfl
theorem q625 : (Jvm.Cond.methodLink "CoreSyntax$Syntax" (134 : Nat) ({ cls := "CoreSyntax$Syntax", name := "rule", desc := "(III)I" } : Jvm.MethodName)) ∈ lw_all := lw_g (lw_at lw_m2 188 rfl) rfl
theorem q626 : (Jvm.Cond.privateMethod ({ cls := "CoreSyntax$Syntax", name := "rule", desc := "(III)I" } : Jvm.MethodName)) ∈ lw_tbl := lw_at lw_m2 189 rfl
theorem q627 : (Jvm.Cond.instanceMethod ({ cls := "CoreSyntax$Syntax", name := "rule", desc := "(III)I" } : Jvm.MethodName)) ∈ lw_all := lw_g (lw_at lw_m2 190 rfl) rfl
theorem q628 : (Jvm.Cond.code ({ cls := "CoreSyntax$Syntax", name := "rule", desc := "(III)I" } : Jvm.MethodName) prog_3_method_25_code (4 : Nat) (Option.some Jvm.ClassFile.FieldType.int)) ∈ lw_all := lw_g (lw_at lw_m2 191 rfl) rfl
theorem q629 : (Jvm.Cond.methodLink "CoreSyntax$Syntax" (141 : Nat) ({ cls := "CoreSyntax$Syntax", name := "function", desc := "(II)I" } : Jvm.MethodName)) ∈ lw_all := lw_g (lw_at lw_m2 192 rfl) rfl
theorem q630 : (Jvm.Cond.privateMethod ({ cls := "CoreSyntax$Syntax", name := "function", desc := "(II)I" } : Jvm.MethodName)) ∈ lw_tbl := lw_at lw_m2 193 rfl
theorem q631 : (Jvm.Cond.instanceMethod ({ cls := "CoreSyntax$Syntax", name := "function", desc := "(II)I" } : Jvm.MethodName)) ∈ lw_all := lw_g (lw_at lw_m2 194 rfl) rfl
theorem q632 : (Jvm.Cond.code ({ cls := "CoreSyntax$Syntax", name := "function", desc := "(II)I" } : Jvm.MethodName) prog_3_method_26_code (3 : Nat) (Option.some Jvm.ClassFile.FieldType.int)) ∈ lw_all := lw_g (lw_at lw_m2 195 rfl) rfl
theorem q633 : (Jvm.Cond.methodLink "CoreSyntax$Syntax" (229 : Nat) ({ cls := "CoreSyntax$Syntax", name := "casing", desc := "(I)I" } : Jvm.MethodName)) ∈ lw_all := lw_g (lw_at lw_m2 196 rfl) rfl
theorem q634 : (Jvm.Cond.privateMethod ({ cls := "CoreSyntax$Syntax", name := "casing", desc := "(I)I" } : Jvm.MethodName)) ∈ lw_tbl := lw_at lw_m2 197 rfl
theorem q635 : (Jvm.Cond.instanceMethod ({ cls := "CoreSyntax$Syntax", name := "casing", desc := "(I)I" } : Jvm.MethodName)) ∈ lw_all := lw_g (lw_at lw_m2 198 rfl) rfl
theorem q636 : (Jvm.Cond.code ({ cls := "CoreSyntax$Syntax", name := "casing", desc := "(I)I" } : Jvm.MethodName) prog_3_method_45_code (3 : Nat) (Option.some Jvm.ClassFile.FieldType.int)) ∈ lw_all := lw_g (lw_at lw_m2 199 rfl) rfl
theorem q637 : (Jvm.Cond.methodLink "CoreSyntax$Syntax" (158 : Nat) ({ cls := "CoreSyntax$Syntax", name := "apply", desc := "(III)I" } : Jvm.MethodName)) ∈ lw_all := lw_g (lw_at lw_m2 200 rfl) rfl
theorem q638 : (Jvm.Cond.privateMethod ({ cls := "CoreSyntax$Syntax", name := "apply", desc := "(III)I" } : Jvm.MethodName)) ∈ lw_tbl := lw_at lw_m2 201 rfl
theorem q639 : (Jvm.Cond.instanceMethod ({ cls := "CoreSyntax$Syntax", name := "apply", desc := "(III)I" } : Jvm.MethodName)) ∈ lw_all := lw_g (lw_at lw_m2 202 rfl) rfl
theorem q640 : (Jvm.Cond.code ({ cls := "CoreSyntax$Syntax", name := "apply", desc := "(III)I" } : Jvm.MethodName) prog_3_method_24_code (4 : Nat) (Option.some Jvm.ClassFile.FieldType.int)) ∈ lw_all := lw_g (lw_at lw_m2 203 rfl) rfl
theorem q641 : (Jvm.Cond.methodLink "CoreSyntax$Syntax" (232 : Nat) ({ cls := "CoreSyntax$Syntax", name := "choice", desc := "(I)I" } : Jvm.MethodName)) ∈ lw_all := lw_g (lw_at lw_m2 204 rfl) rfl
theorem q642 : (Jvm.Cond.privateMethod ({ cls := "CoreSyntax$Syntax", name := "choice", desc := "(I)I" } : Jvm.MethodName)) ∈ lw_tbl := lw_at lw_m2 205 rfl
theorem q643 : (Jvm.Cond.instanceMethod ({ cls := "CoreSyntax$Syntax", name := "choice", desc := "(I)I" } : Jvm.MethodName)) ∈ lw_all := lw_g (lw_at lw_m2 206 rfl) rfl
theorem q644 : (Jvm.Cond.code ({ cls := "CoreSyntax$Syntax", name := "choice", desc := "(I)I" } : Jvm.MethodName) prog_3_method_46_code (4 : Nat) (Option.some Jvm.ClassFile.FieldType.int)) ∈ lw_all := lw_g (lw_at lw_m2 207 rfl) rfl
theorem q645 : (Jvm.Cond.methodLink "CoreSyntax$Syntax" (176 : Nat) ({ cls := "CoreSyntax$Syntax", name := "choose", desc := "(IIII)I" } : Jvm.MethodName)) ∈ lw_all := lw_g (lw_at lw_m2 208 rfl) rfl
theorem q646 : (Jvm.Cond.privateMethod ({ cls := "CoreSyntax$Syntax", name := "choose", desc := "(IIII)I" } : Jvm.MethodName)) ∈ lw_tbl := lw_at lw_m2 209 rfl
theorem q647 : (Jvm.Cond.instanceMethod ({ cls := "CoreSyntax$Syntax", name := "choose", desc := "(IIII)I" } : Jvm.MethodName)) ∈ lw_all := lw_g (lw_at lw_m2 210 rfl) rfl
theorem q648 : (Jvm.Cond.code ({ cls := "CoreSyntax$Syntax", name := "choose", desc := "(IIII)I" } : Jvm.MethodName) prog_3_method_32_code (6 : Nat) (Option.some Jvm.ClassFile.FieldType.int)) ∈ lw_all := lw_g (lw_at lw_m2 211 rfl) rfl
theorem q649 : (Jvm.Cond.methodLink "CoreSyntax$Syntax" (235 : Nat) ({ cls := "CoreSyntax$Syntax", name := "looping", desc := "(I)I" } : Jvm.MethodName)) ∈ lw_all := lw_g (lw_at lw_m2 212 rfl) rfl
theorem q650 : (Jvm.Cond.privateMethod ({ cls := "CoreSyntax$Syntax", name := "looping", desc := "(I)I" } : Jvm.MethodName)) ∈ lw_tbl := lw_at lw_m2 213 rfl
theorem q651 : (Jvm.Cond.instanceMethod ({ cls := "CoreSyntax$Syntax", name := "looping", desc := "(I)I" } : Jvm.MethodName)) ∈ lw_all := lw_g (lw_at lw_m2 214 rfl) rfl
theorem q652 : (Jvm.Cond.code ({ cls := "CoreSyntax$Syntax", name := "looping", desc := "(I)I" } : Jvm.MethodName) prog_3_method_47_code (3 : Nat) (Option.some Jvm.ClassFile.FieldType.int)) ∈ lw_all := lw_g (lw_at lw_m2 215 rfl) rfl
theorem q653 : (Jvm.Cond.methodLink "CoreSyntax$Syntax" (241 : Nat) ({ cls := "CoreSyntax$Syntax", name := "loop", desc := "(III)I" } : Jvm.MethodName)) ∈ lw_all := lw_g (lw_at lw_m2 216 rfl) rfl
theorem q654 : (Jvm.Cond.privateMethod ({ cls := "CoreSyntax$Syntax", name := "loop", desc := "(III)I" } : Jvm.MethodName)) ∈ lw_tbl := lw_at lw_m2 217 rfl
theorem q655 : (Jvm.Cond.instanceMethod ({ cls := "CoreSyntax$Syntax", name := "loop", desc := "(III)I" } : Jvm.MethodName)) ∈ lw_all := lw_g (lw_at lw_m2 218 rfl) rfl
theorem q656 : (Jvm.Cond.code ({ cls := "CoreSyntax$Syntax", name := "loop", desc := "(III)I" } : Jvm.MethodName) prog_3_method_34_code (12 : Nat) (Option.some Jvm.ClassFile.FieldType.int)) ∈ lw_all := lw_g (lw_at lw_m2 219 rfl) rfl
theorem q657 : (Jvm.Cond.methodLink "CoreSyntax$Syntax" (164 : Nat) ({ cls := "CoreSyntax$Syntax", name := "freshName", desc := "()I" } : Jvm.MethodName)) ∈ lw_all := lw_g (lw_at lw_m2 220 rfl) rfl
theorem q658 : (Jvm.Cond.privateMethod ({ cls := "CoreSyntax$Syntax", name := "freshName", desc := "()I" } : Jvm.MethodName)) ∈ lw_tbl := lw_at lw_m2 221 rfl
theorem q659 : (Jvm.Cond.instanceMethod ({ cls := "CoreSyntax$Syntax", name := "freshName", desc := "()I" } : Jvm.MethodName)) ∈ lw_all := lw_g (lw_at lw_m2 222 rfl) rfl
theorem q660 : (Jvm.Cond.code ({ cls := "CoreSyntax$Syntax", name := "freshName", desc := "()I" } : Jvm.MethodName) prog_3_method_28_code (1 : Nat) (Option.some Jvm.ClassFile.FieldType.int)) ∈ lw_all := lw_g (lw_at lw_m2 223 rfl) rfl
theorem q661 : (Jvm.Cond.methodLink "CoreSyntax$Syntax" (167 : Nat) ({ cls := "CoreSyntax$Syntax", name := "name", desc := "(II)I" } : Jvm.MethodName)) ∈ lw_all := lw_g (lw_at lw_m2 224 rfl) rfl
theorem q662 : (Jvm.Cond.privateMethod ({ cls := "CoreSyntax$Syntax", name := "name", desc := "(II)I" } : Jvm.MethodName)) ∈ lw_tbl := lw_at lw_m2 225 rfl
theorem q663 : (Jvm.Cond.instanceMethod ({ cls := "CoreSyntax$Syntax", name := "name", desc := "(II)I" } : Jvm.MethodName)) ∈ lw_all := lw_g (lw_at lw_m2 226 rfl) rfl
theorem q664 : (Jvm.Cond.code ({ cls := "CoreSyntax$Syntax", name := "name", desc := "(II)I" } : Jvm.MethodName) prog_3_method_22_code (3 : Nat) (Option.some Jvm.ClassFile.FieldType.int)) ∈ lw_all := lw_g (lw_at lw_m2 227 rfl) rfl
theorem q665 : (Jvm.Cond.methodLink "CoreSyntax$Syntax" (170 : Nat) ({ cls := "CoreSyntax$Syntax", name := "unit", desc := "(I)I" } : Jvm.MethodName)) ∈ lw_all := lw_g (lw_at lw_m2 228 rfl) rfl
theorem q666 : (Jvm.Cond.privateMethod ({ cls := "CoreSyntax$Syntax", name := "unit", desc := "(I)I" } : Jvm.MethodName)) ∈ lw_tbl := lw_at lw_m2 229 rfl
theorem q667 : (Jvm.Cond.instanceMethod ({ cls := "CoreSyntax$Syntax", name := "unit", desc := "(I)I" } : Jvm.MethodName)) ∈ lw_all := lw_g (lw_at lw_m2 230 rfl) rfl
theorem q668 : (Jvm.Cond.code ({ cls := "CoreSyntax$Syntax", name := "unit", desc := "(I)I" } : Jvm.MethodName) prog_3_method_31_code (2 : Nat) (Option.some Jvm.ClassFile.FieldType.int)) ∈ lw_all := lw_g (lw_at lw_m2 231 rfl) rfl
theorem q669 : (Jvm.Cond.methodLink "CoreSyntax$Syntax" (173 : Nat) ({ cls := "CoreSyntax$Syntax", name := "sequence", desc := "(II)I" } : Jvm.MethodName)) ∈ lw_all := lw_g (lw_at lw_m2 232 rfl) rfl
theorem q670 : (Jvm.Cond.privateMethod ({ cls := "CoreSyntax$Syntax", name := "sequence", desc := "(II)I" } : Jvm.MethodName)) ∈ lw_tbl := lw_at lw_m2 233 rfl
theorem q671 : (Jvm.Cond.instanceMethod ({ cls := "CoreSyntax$Syntax", name := "sequence", desc := "(II)I" } : Jvm.MethodName)) ∈ lw_all := lw_g (lw_at lw_m2 234 rfl) rfl
theorem q672 : (Jvm.Cond.code ({ cls := "CoreSyntax$Syntax", name := "sequence", desc := "(II)I" } : Jvm.MethodName) prog_3_method_33_code (5 : Nat) (Option.some Jvm.ClassFile.FieldType.int)) ∈ lw_all := lw_g (lw_at lw_m2 235 rfl) rfl
theorem q673 : (Jvm.Cond.methodLink "CoreSyntax$Syntax" (161 : Nat) ({ cls := "CoreSyntax$Syntax", name := "lambda", desc := "(III)I" } : Jvm.MethodName)) ∈ lw_all := lw_g (lw_at lw_m2 236 rfl) rfl
theorem q674 : (Jvm.Cond.privateMethod ({ cls := "CoreSyntax$Syntax", name := "lambda", desc := "(III)I" } : Jvm.MethodName)) ∈ lw_tbl := lw_at lw_m2 237 rfl
theorem q675 : (Jvm.Cond.instanceMethod ({ cls := "CoreSyntax$Syntax", name := "lambda", desc := "(III)I" } : Jvm.MethodName)) ∈ lw_all := lw_g (lw_at lw_m2 238 rfl) rfl
theorem q676 : (Jvm.Cond.code ({ cls := "CoreSyntax$Syntax", name := "lambda", desc := "(III)I" } : Jvm.MethodName) prog_3_method_27_code (4 : Nat) (Option.some Jvm.ClassFile.FieldType.int)) ∈ lw_all := lw_g (lw_at lw_m2 239 rfl) rfl
theorem q677 : (Jvm.Cond.methodLink "CoreSyntax$Syntax" (270 : Nat) ({ cls := "CoreSyntax$Syntax", name := "elements", desc := "(Z)I" } : Jvm.MethodName)) ∈ lw_all := lw_g (lw_at lw_m3 0 rfl) rfl
theorem q678 : (Jvm.Cond.privateMethod ({ cls := "CoreSyntax$Syntax", name := "elements", desc := "(Z)I" } : Jvm.MethodName)) ∈ lw_tbl := lw_at lw_m3 1 rfl
theorem q679 : (Jvm.Cond.instanceMethod ({ cls := "CoreSyntax$Syntax", name := "elements", desc := "(Z)I" } : Jvm.MethodName)) ∈ lw_all := lw_g (lw_at lw_m3 2 rfl) rfl
theorem q680 : (Jvm.Cond.code ({ cls := "CoreSyntax$Syntax", name := "elements", desc := "(Z)I" } : Jvm.MethodName) prog_3_method_57_code (5 : Nat) (Option.some Jvm.ClassFile.FieldType.int)) ∈ lw_all := lw_g (lw_at lw_m3 3 rfl) rfl
theorem q681 : (Jvm.Cond.methodLink "CoreSyntax$Syntax" (286 : Nat) ({ cls := "CoreSyntax$Syntax", name := "chain", desc := "(IZI)I" } : Jvm.MethodName)) ∈ lw_all := lw_g (lw_at lw_m3 4 rfl) rfl
theorem q682 : (Jvm.Cond.privateMethod ({ cls := "CoreSyntax$Syntax", name := "chain", desc := "(IZI)I" } : Jvm.MethodName)) ∈ lw_tbl := lw_at lw_m3 5 rfl
theorem q683 : (Jvm.Cond.instanceMethod ({ cls := "CoreSyntax$Syntax", name := "chain", desc := "(IZI)I" } : Jvm.MethodName)) ∈ lw_all := lw_g (lw_at lw_m3 6 rfl) rfl
theorem q684 : (Jvm.Cond.code ({ cls := "CoreSyntax$Syntax", name := "chain", desc := "(IZI)I" } : Jvm.MethodName) prog_3_method_35_code (7 : Nat) (Option.some Jvm.ClassFile.FieldType.int)) ∈ lw_all := lw_g (lw_at lw_m3 7 rfl) rfl
theorem q685 : (Jvm.Cond.methodLink "CoreSyntax$Syntax" (179 : Nat) ({ cls := "CoreSyntax$Syntax", name := "pair", desc := "(IIZI)I" } : Jvm.MethodName)) ∈ lw_all := lw_g (lw_at lw_m3 8 rfl) rfl
theorem q686 : (Jvm.Cond.privateMethod ({ cls := "CoreSyntax$Syntax", name := "pair", desc := "(IIZI)I" } : Jvm.MethodName)) ∈ lw_tbl := lw_at lw_m3 9 rfl
theorem q687 : (Jvm.Cond.instanceMethod ({ cls := "CoreSyntax$Syntax", name := "pair", desc := "(IIZI)I" } : Jvm.MethodName)) ∈ lw_all := lw_g (lw_at lw_m3 10 rfl) rfl
theorem q688 : (Jvm.Cond.code ({ cls := "CoreSyntax$Syntax", name := "pair", desc := "(IIZI)I" } : Jvm.MethodName) prog_3_method_30_code (6 : Nat) (Option.some Jvm.ClassFile.FieldType.int)) ∈ lw_all := lw_g (lw_at lw_m3 11 rfl) rfl
theorem q689 : (Jvm.Cond.methodLink "CoreSyntax$Syntax" (308 : Nat) ({ cls := "CoreSyntax$Syntax", name := "beginsAtomicPattern", desc := "()Z" } : Jvm.MethodName)) ∈ lw_all := lw_g (lw_at lw_m3 12 rfl) rfl
theorem q690 : (Jvm.Cond.privateMethod ({ cls := "CoreSyntax$Syntax", name := "beginsAtomicPattern", desc := "()Z" } : Jvm.MethodName)) ∈ lw_tbl := lw_at lw_m3 13 rfl
theorem q691 : (Jvm.Cond.instanceMethod ({ cls := "CoreSyntax$Syntax", name := "beginsAtomicPattern", desc := "()Z" } : Jvm.MethodName)) ∈ lw_all := lw_g (lw_at lw_m3 14 rfl) rfl
theorem q692 : (Jvm.Cond.code ({ cls := "CoreSyntax$Syntax", name := "beginsAtomicPattern", desc := "()Z" } : Jvm.MethodName) prog_3_method_63_code (2 : Nat) (Option.some Jvm.ClassFile.FieldType.boolean)) ∈ lw_all := lw_g (lw_at lw_m3 15 rfl) rfl
theorem q693 : (Jvm.Cond.methodLink "CoreSyntax$Syntax" (197 : Nat) ({ cls := "CoreSyntax$Syntax", name := "application", desc := "()I" } : Jvm.MethodName)) ∈ lw_all := lw_g (lw_at lw_m3 16 rfl) rfl
theorem q694 : (Jvm.Cond.privateMethod ({ cls := "CoreSyntax$Syntax", name := "application", desc := "()I" } : Jvm.MethodName)) ∈ lw_tbl := lw_at lw_m3 17 rfl
theorem q695 : (Jvm.Cond.instanceMethod ({ cls := "CoreSyntax$Syntax", name := "application", desc := "()I" } : Jvm.MethodName)) ∈ lw_all := lw_g (lw_at lw_m3 18 rfl) rfl
theorem q696 : (Jvm.Cond.code ({ cls := "CoreSyntax$Syntax", name := "application", desc := "()I" } : Jvm.MethodName) prog_3_method_50_code (3 : Nat) (Option.some Jvm.ClassFile.FieldType.int)) ∈ lw_all := lw_g (lw_at lw_m3 19 rfl) rfl
theorem q697 : (Jvm.Cond.methodLink "CoreSyntax$Syntax" (251 : Nat) ({ cls := "CoreSyntax$Syntax", name := "atom", desc := "()I" } : Jvm.MethodName)) ∈ lw_all := lw_g (lw_at lw_m3 20 rfl) rfl
theorem q698 : (Jvm.Cond.privateMethod ({ cls := "CoreSyntax$Syntax", name := "atom", desc := "()I" } : Jvm.MethodName)) ∈ lw_tbl := lw_at lw_m3 21 rfl
theorem q699 : (Jvm.Cond.instanceMethod ({ cls := "CoreSyntax$Syntax", name := "atom", desc := "()I" } : Jvm.MethodName)) ∈ lw_all := lw_g (lw_at lw_m3 22 rfl) rfl
theorem q700 : (Jvm.Cond.code ({ cls := "CoreSyntax$Syntax", name := "atom", desc := "()I" } : Jvm.MethodName) prog_3_method_52_code (2 : Nat) (Option.some Jvm.ClassFile.FieldType.int)) ∈ lw_all := lw_g (lw_at lw_m3 23 rfl) rfl
theorem q701 : (Jvm.Cond.methodLink "CoreSyntax$Syntax" (261 : Nat) ({ cls := "CoreSyntax$Syntax", name := "recordExp", desc := "()I" } : Jvm.MethodName)) ∈ lw_all := lw_g (lw_at lw_m3 24 rfl) rfl
theorem q702 : (Jvm.Cond.privateMethod ({ cls := "CoreSyntax$Syntax", name := "recordExp", desc := "()I" } : Jvm.MethodName)) ∈ lw_tbl := lw_at lw_m3 25 rfl
theorem q703 : (Jvm.Cond.instanceMethod ({ cls := "CoreSyntax$Syntax", name := "recordExp", desc := "()I" } : Jvm.MethodName)) ∈ lw_all := lw_g (lw_at lw_m3 26 rfl) rfl
theorem q704 : (Jvm.Cond.code ({ cls := "CoreSyntax$Syntax", name := "recordExp", desc := "()I" } : Jvm.MethodName) prog_3_method_53_code (7 : Nat) (Option.some Jvm.ClassFile.FieldType.int)) ∈ lw_all := lw_g (lw_at lw_m3 27 rfl) rfl
theorem q705 : (Jvm.Cond.methodLink "CoreSyntax$Syntax" (264 : Nat) ({ cls := "CoreSyntax$Syntax", name := "selector", desc := "()I" } : Jvm.MethodName)) ∈ lw_all := lw_g (lw_at lw_m3 28 rfl) rfl
theorem q706 : (Jvm.Cond.privateMethod ({ cls := "CoreSyntax$Syntax", name := "selector", desc := "()I" } : Jvm.MethodName)) ∈ lw_tbl := lw_at lw_m3 29 rfl
theorem q707 : (Jvm.Cond.instanceMethod ({ cls := "CoreSyntax$Syntax", name := "selector", desc := "()I" } : Jvm.MethodName)) ∈ lw_all := lw_g (lw_at lw_m3 30 rfl) rfl
theorem q708 : (Jvm.Cond.code ({ cls := "CoreSyntax$Syntax", name := "selector", desc := "()I" } : Jvm.MethodName) prog_3_method_54_code (5 : Nat) (Option.some Jvm.ClassFile.FieldType.int)) ∈ lw_all := lw_g (lw_at lw_m3 31 rfl) rfl
theorem q709 : (Jvm.Cond.methodLink "CoreSyntax$Syntax" (273 : Nat) ({ cls := "CoreSyntax$Syntax", name := "let", desc := "()I" } : Jvm.MethodName)) ∈ lw_all := lw_g (lw_at lw_m3 32 rfl) rfl
theorem q710 : (Jvm.Cond.privateMethod ({ cls := "CoreSyntax$Syntax", name := "let", desc := "()I" } : Jvm.MethodName)) ∈ lw_tbl := lw_at lw_m3 33 rfl
theorem q711 : (Jvm.Cond.instanceMethod ({ cls := "CoreSyntax$Syntax", name := "let", desc := "()I" } : Jvm.MethodName)) ∈ lw_all := lw_g (lw_at lw_m3 34 rfl) rfl
theorem q712 : (Jvm.Cond.code ({ cls := "CoreSyntax$Syntax", name := "let", desc := "()I" } : Jvm.MethodName) prog_3_method_58_code (5 : Nat) (Option.some Jvm.ClassFile.FieldType.int)) ∈ lw_all := lw_g (lw_at lw_m3 35 rfl) rfl
theorem q713 : (Jvm.Cond.methodLink "CoreSyntax$Syntax" (290 : Nat) ({ cls := "CoreSyntax$Syntax", name := "decs", desc := "()I" } : Jvm.MethodName)) ∈ lw_all := lw_g (lw_at lw_m3 36 rfl) rfl
theorem q714 : (Jvm.Cond.privateMethod ({ cls := "CoreSyntax$Syntax", name := "decs", desc := "()I" } : Jvm.MethodName)) ∈ lw_tbl := lw_at lw_m3 37 rfl
theorem q715 : (Jvm.Cond.instanceMethod ({ cls := "CoreSyntax$Syntax", name := "decs", desc := "()I" } : Jvm.MethodName)) ∈ lw_all := lw_g (lw_at lw_m3 38 rfl) rfl
theorem q716 : (Jvm.Cond.code ({ cls := "CoreSyntax$Syntax", name := "decs", desc := "()I" } : Jvm.MethodName) prog_3_method_78_code (3 : Nat) (Option.some Jvm.ClassFile.FieldType.int)) ∈ lw_all := lw_g (lw_at lw_m3 39 rfl) rfl
theorem q717 : (Jvm.Cond.methodLink "CoreSyntax$Syntax" (293 : Nat) ({ cls := "CoreSyntax$Syntax", name := "back", desc := "(I)V" } : Jvm.MethodName)) ∈ lw_all := lw_g (lw_at lw_m3 40 rfl) rfl
theorem q718 : (Jvm.Cond.privateMethod ({ cls := "CoreSyntax$Syntax", name := "back", desc := "(I)V" } : Jvm.MethodName)) ∈ lw_tbl := lw_at lw_m3 41 rfl
theorem q719 : (Jvm.Cond.instanceMethod ({ cls := "CoreSyntax$Syntax", name := "back", desc := "(I)V" } : Jvm.MethodName)) ∈ lw_all := lw_g (lw_at lw_m3 42 rfl) rfl
theorem q720 : (Jvm.Cond.code ({ cls := "CoreSyntax$Syntax", name := "back", desc := "(I)V" } : Jvm.MethodName) prog_3_method_94_code (2 : Nat) (Option.none : Option Jvm.ClassFile.FieldType)) ∈ lw_all := lw_g (lw_at lw_m3 43 rfl) rfl
theorem q721 : (Jvm.Cond.methodLink "CoreSyntax$Syntax" (254 : Nat) ({ cls := "CoreSyntax$Syntax", name := "beginsAtom", desc := "()Z" } : Jvm.MethodName)) ∈ lw_all := lw_g (lw_at lw_m3 44 rfl) rfl
theorem q722 : (Jvm.Cond.privateMethod ({ cls := "CoreSyntax$Syntax", name := "beginsAtom", desc := "()Z" } : Jvm.MethodName)) ∈ lw_tbl := lw_at lw_m3 45 rfl
theorem q723 : (Jvm.Cond.instanceMethod ({ cls := "CoreSyntax$Syntax", name := "beginsAtom", desc := "()Z" } : Jvm.MethodName)) ∈ lw_all := lw_g (lw_at lw_m3 46 rfl) rfl
theorem q724 : (Jvm.Cond.code ({ cls := "CoreSyntax$Syntax", name := "beginsAtom", desc := "()Z" } : Jvm.MethodName) prog_3_method_49_code (2 : Nat) (Option.some Jvm.ClassFile.FieldType.boolean)) ∈ lw_all := lw_g (lw_at lw_m3 47 rfl) rfl
theorem q725 : (Jvm.Cond.methodLink "CoreSyntax$Syntax" (203 : Nat) ({ cls := "CoreSyntax$Syntax", name := "isFirst", desc := "(I)Z" } : Jvm.MethodName)) ∈ lw_all := lw_g (lw_at lw_m3 48 rfl) rfl
theorem q726 : (Jvm.Cond.privateMethod ({ cls := "CoreSyntax$Syntax", name := "isFirst", desc := "(I)Z" } : Jvm.MethodName)) ∈ lw_tbl := lw_at lw_m3 49 rfl
theorem q727 : (Jvm.Cond.instanceMethod ({ cls := "CoreSyntax$Syntax", name := "isFirst", desc := "(I)Z" } : Jvm.MethodName)) ∈ lw_all := lw_g (lw_at lw_m3 50 rfl) rfl
theorem q728 : (Jvm.Cond.code ({ cls := "CoreSyntax$Syntax", name := "isFirst", desc := "(I)Z" } : Jvm.MethodName) prog_3_method_40_code (5 : Nat) (Option.some Jvm.ClassFile.FieldType.boolean)) ∈ lw_all := lw_g (lw_at lw_m3 51 rfl) rfl
theorem q729 : (Jvm.Cond.methodLink "CoreSyntax$Syntax" (206 : Nat) ({ cls := "CoreSyntax$Syntax", name := "reduce", desc := "(Z)V" } : Jvm.MethodName)) ∈ lw_all := lw_g (lw_at lw_m3 52 rfl) rfl
theorem q730 : (Jvm.Cond.privateMethod ({ cls := "CoreSyntax$Syntax", name := "reduce", desc := "(Z)V" } : Jvm.MethodName)) ∈ lw_tbl := lw_at lw_m3 53 rfl
theorem q731 : (Jvm.Cond.instanceMethod ({ cls := "CoreSyntax$Syntax", name := "reduce", desc := "(Z)V" } : Jvm.MethodName)) ∈ lw_all := lw_g (lw_at lw_m3 54 rfl) rfl
theorem q732 : (Jvm.Cond.code ({ cls := "CoreSyntax$Syntax", name := "reduce", desc := "(Z)V" } : Jvm.MethodName) prog_3_method_41_code (10 : Nat) (Option.none : Option Jvm.ClassFile.FieldType)) ∈ lw_all := lw_g (lw_at lw_m3 55 rfl) rfl
theorem q733 : (Jvm.Cond.methodLink "CoreSyntax$Syntax" (296 : Nat) ({ cls := "CoreSyntax$Syntax", name := "isOpAt", desc := "(I)Z" } : Jvm.MethodName)) ∈ lw_all := lw_g (lw_at lw_m3 56 rfl) rfl
theorem q734 : (Jvm.Cond.privateMethod ({ cls := "CoreSyntax$Syntax", name := "isOpAt", desc := "(I)Z" } : Jvm.MethodName)) ∈ lw_tbl := lw_at lw_m3 57 rfl
theorem q735 : (Jvm.Cond.instanceMethod ({ cls := "CoreSyntax$Syntax", name := "isOpAt", desc := "(I)Z" } : Jvm.MethodName)) ∈ lw_all := lw_g (lw_at lw_m3 58 rfl) rfl
theorem q736 : (Jvm.Cond.code ({ cls := "CoreSyntax$Syntax", name := "isOpAt", desc := "(I)Z" } : Jvm.MethodName) prog_3_method_61_code (2 : Nat) (Option.some Jvm.ClassFile.FieldType.boolean)) ∈ lw_all := lw_g (lw_at lw_m3 59 rfl) rfl
theorem q737 : (Jvm.Cond.methodLink "CoreSyntax$Syntax" (347 : Nat) ({ cls := "CoreSyntax$Syntax", name := "functions", desc := "(I)I" } : Jvm.MethodName)) ∈ lw_all := lw_g (lw_at lw_m3 60 rfl) rfl
theorem q738 : (Jvm.Cond.privateMethod ({ cls := "CoreSyntax$Syntax", name := "functions", desc := "(I)I" } : Jvm.MethodName)) ∈ lw_tbl := lw_at lw_m3 61 rfl
theorem q739 : (Jvm.Cond.instanceMethod ({ cls := "CoreSyntax$Syntax", name := "functions", desc := "(I)I" } : Jvm.MethodName)) ∈ lw_all := lw_g (lw_at lw_m3 62 rfl) rfl
theorem q740 : (Jvm.Cond.code ({ cls := "CoreSyntax$Syntax", name := "functions", desc := "(I)I" } : Jvm.MethodName) prog_3_method_97_code (5 : Nat) (Option.some Jvm.ClassFile.FieldType.int)) ∈ lw_all := lw_g (lw_at lw_m3 63 rfl) rfl
theorem q741 : (Jvm.Cond.methodLink "CoreSyntax$Syntax" (398 : Nat) ({ cls := "CoreSyntax$Syntax", name := "clauses", desc := "()I" } : Jvm.MethodName)) ∈ lw_all := lw_g (lw_at lw_m3 64 rfl) rfl
theorem q742 : (Jvm.Cond.privateMethod ({ cls := "CoreSyntax$Syntax", name := "clauses", desc := "()I" } : Jvm.MethodName)) ∈ lw_tbl := lw_at lw_m3 65 rfl
theorem q743 : (Jvm.Cond.instanceMethod ({ cls := "CoreSyntax$Syntax", name := "clauses", desc := "()I" } : Jvm.MethodName)) ∈ lw_all := lw_g (lw_at lw_m3 66 rfl) rfl
theorem q744 : (Jvm.Cond.code ({ cls := "CoreSyntax$Syntax", name := "clauses", desc := "()I" } : Jvm.MethodName) prog_3_method_98_code (14 : Nat) (Option.some Jvm.ClassFile.FieldType.int)) ∈ lw_all := lw_g (lw_at lw_m3 67 rfl) rfl
theorem q745 : (Jvm.Cond.methodLink "CoreSyntax$Syntax" (401 : Nat) ({ cls := "CoreSyntax$Syntax", name := "head", desc := "()V" } : Jvm.MethodName)) ∈ lw_all := lw_g (lw_at lw_m3 68 rfl) rfl
theorem q746 : (Jvm.Cond.privateMethod ({ cls := "CoreSyntax$Syntax", name := "head", desc := "()V" } : Jvm.MethodName)) ∈ lw_tbl := lw_at lw_m3 69 rfl
theorem q747 : (Jvm.Cond.instanceMethod ({ cls := "CoreSyntax$Syntax", name := "head", desc := "()V" } : Jvm.MethodName)) ∈ lw_all := lw_g (lw_at lw_m3 70 rfl) rfl
theorem q748 : (Jvm.Cond.code ({ cls := "CoreSyntax$Syntax", name := "head", desc := "()V" } : Jvm.MethodName) prog_3_method_100_code (4 : Nat) (Option.none : Option Jvm.ClassFile.FieldType)) ∈ lw_all := lw_g (lw_at lw_m3 71 rfl) rfl
theorem q749 : (Jvm.Cond.methodLink "CoreSyntax$Syntax" (410 : Nat) ({ cls := "CoreSyntax$Syntax", name := "arguments", desc := "(Z)V" } : Jvm.MethodName)) ∈ lw_all := lw_g (lw_at lw_m3 72 rfl) rfl
theorem q750 : (Jvm.Cond.privateMethod ({ cls := "CoreSyntax$Syntax", name := "arguments", desc := "(Z)V" } : Jvm.MethodName)) ∈ lw_tbl := lw_at lw_m3 73 rfl
theorem q751 : (Jvm.Cond.instanceMethod ({ cls := "CoreSyntax$Syntax", name := "arguments", desc := "(Z)V" } : Jvm.MethodName)) ∈ lw_all := lw_g (lw_at lw_m3 74 rfl) rfl
theorem q752 : (Jvm.Cond.code ({ cls := "CoreSyntax$Syntax", name := "arguments", desc := "(Z)V" } : Jvm.MethodName) prog_3_method_101_code (2 : Nat) (Option.none : Option Jvm.ClassFile.FieldType)) ∈ lw_all := lw_g (lw_at lw_m3 75 rfl) rfl
theorem q753 : (Jvm.Cond.methodLink "CoreSyntax$Syntax" (413 : Nat) ({ cls := "CoreSyntax$Syntax", name := "inBrackets", desc := "()Z" } : Jvm.MethodName)) ∈ lw_all := lw_g (lw_at lw_m3 76 rfl) rfl
theorem q754 : (Jvm.Cond.privateMethod ({ cls := "CoreSyntax$Syntax", name := "inBrackets", desc := "()Z" } : Jvm.MethodName)) ∈ lw_tbl := lw_at lw_m3 77 rfl
theorem q755 : (Jvm.Cond.instanceMethod ({ cls := "CoreSyntax$Syntax", name := "inBrackets", desc := "()Z" } : Jvm.MethodName)) ∈ lw_all := lw_g (lw_at lw_m3 78 rfl) rfl
theorem q756 : (Jvm.Cond.code ({ cls := "CoreSyntax$Syntax", name := "inBrackets", desc := "()Z" } : Jvm.MethodName) prog_3_method_102_code (6 : Nat) (Option.some Jvm.ClassFile.FieldType.boolean)) ∈ lw_all := lw_g (lw_at lw_m3 79 rfl) rfl
theorem q757 : (Jvm.Cond.methodLink "CoreSyntax$Syntax" (407 : Nat) ({ cls := "CoreSyntax$Syntax", name := "curried", desc := "(III)I" } : Jvm.MethodName)) ∈ lw_all := lw_g (lw_at lw_m3 80 rfl) rfl
theorem q758 : (Jvm.Cond.privateMethod ({ cls := "CoreSyntax$Syntax", name := "curried", desc := "(III)I" } : Jvm.MethodName)) ∈ lw_tbl := lw_at lw_m3 81 rfl
theorem q759 : (Jvm.Cond.instanceMethod ({ cls := "CoreSyntax$Syntax", name := "curried", desc := "(III)I" } : Jvm.MethodName)) ∈ lw_all := lw_g (lw_at lw_m3 82 rfl) rfl
theorem q760 : (Jvm.Cond.code ({ cls := "CoreSyntax$Syntax", name := "curried", desc := "(III)I" } : Jvm.MethodName) prog_3_method_99_code (9 : Nat) (Option.some Jvm.ClassFile.FieldType.int)) ∈ lw_all := lw_g (lw_at lw_m3 83 rfl) rfl
theorem q761 : (Jvm.Cond.methodLink "CoreSyntax$Syntax" (350 : Nat) ({ cls := "CoreSyntax$Syntax", name := "typeBindings", desc := "()I" } : Jvm.MethodName)) ∈ lw_all := lw_g (lw_at lw_m3 84 rfl) rfl
theorem q762 : (Jvm.Cond.privateMethod ({ cls := "CoreSyntax$Syntax", name := "typeBindings", desc := "()I" } : Jvm.MethodName)) ∈ lw_tbl := lw_at lw_m3 85 rfl
theorem q763 : (Jvm.Cond.instanceMethod ({ cls := "CoreSyntax$Syntax", name := "typeBindings", desc := "()I" } : Jvm.MethodName)) ∈ lw_all := lw_g (lw_at lw_m3 86 rfl) rfl
theorem q764 : (Jvm.Cond.code ({ cls := "CoreSyntax$Syntax", name := "typeBindings", desc := "()I" } : Jvm.MethodName) prog_3_method_82_code (7 : Nat) (Option.some Jvm.ClassFile.FieldType.int)) ∈ lw_all := lw_g (lw_at lw_m3 87 rfl) rfl
theorem q765 : (Jvm.Cond.methodLink "CoreSyntax$Syntax" (374 : Nat) ({ cls := "CoreSyntax$Syntax", name := "shortTycon", desc := "()I" } : Jvm.MethodName)) ∈ lw_all := lw_g (lw_at lw_m3 88 rfl) rfl
theorem q766 : (Jvm.Cond.privateMethod ({ cls := "CoreSyntax$Syntax", name := "shortTycon", desc := "()I" } : Jvm.MethodName)) ∈ lw_tbl := lw_at lw_m3 89 rfl
theorem q767 : (Jvm.Cond.instanceMethod ({ cls := "CoreSyntax$Syntax", name := "shortTycon", desc := "()I" } : Jvm.MethodName)) ∈ lw_all := lw_g (lw_at lw_m3 90 rfl) rfl
theorem q768 : (Jvm.Cond.code ({ cls := "CoreSyntax$Syntax", name := "shortTycon", desc := "()I" } : Jvm.MethodName) prog_3_method_81_code (1 : Nat) (Option.some Jvm.ClassFile.FieldType.int)) ∈ lw_all := lw_g (lw_at lw_m3 91 rfl) rfl
theorem q769 : (Jvm.Cond.methodLink "CoreSyntax$Syntax" (353 : Nat) ({ cls := "CoreSyntax$Syntax", name := "datatype", desc := "(I)I" } : Jvm.MethodName)) ∈ lw_all := lw_g (lw_at lw_m3 92 rfl) rfl
theorem q770 : (Jvm.Cond.privateMethod ({ cls := "CoreSyntax$Syntax", name := "datatype", desc := "(I)I" } : Jvm.MethodName)) ∈ lw_tbl := lw_at lw_m3 93 rfl
theorem q771 : (Jvm.Cond.instanceMethod ({ cls := "CoreSyntax$Syntax", name := "datatype", desc := "(I)I" } : Jvm.MethodName)) ∈ lw_all := lw_g (lw_at lw_m3 94 rfl) rfl
theorem q772 : (Jvm.Cond.code ({ cls := "CoreSyntax$Syntax", name := "datatype", desc := "(I)I" } : Jvm.MethodName) prog_3_method_88_code (7 : Nat) (Option.some Jvm.ClassFile.FieldType.int)) ∈ lw_all := lw_g (lw_at lw_m3 95 rfl) rfl
theorem q773 : (Jvm.Cond.methodLink "CoreSyntax$Syntax" (386 : Nat) ({ cls := "CoreSyntax$Syntax", name := "dataBindings", desc := "(III)I" } : Jvm.MethodName)) ∈ lw_all := lw_g (lw_at lw_m3 96 rfl) rfl
theorem q774 : (Jvm.Cond.privateMethod ({ cls := "CoreSyntax$Syntax", name := "dataBindings", desc := "(III)I" } : Jvm.MethodName)) ∈ lw_tbl := lw_at lw_m3 97 rfl
theorem q775 : (Jvm.Cond.instanceMethod ({ cls := "CoreSyntax$Syntax", name := "dataBindings", desc := "(III)I" } : Jvm.MethodName)) ∈ lw_all := lw_g (lw_at lw_m3 98 rfl) rfl
theorem q776 : (Jvm.Cond.code ({ cls := "CoreSyntax$Syntax", name := "dataBindings", desc := "(III)I" } : Jvm.MethodName) prog_3_method_86_code (8 : Nat) (Option.some Jvm.ClassFile.FieldType.int)) ∈ lw_all := lw_g (lw_at lw_m3 99 rfl) rfl
theorem q777 : (Jvm.Cond.methodLink "CoreSyntax$Syntax" (383 : Nat) ({ cls := "CoreSyntax$Syntax", name := "constructors", desc := "()I" } : Jvm.MethodName)) ∈ lw_all := lw_g (lw_at lw_m3 100 rfl) rfl
theorem q778 : (Jvm.Cond.privateMethod ({ cls := "CoreSyntax$Syntax", name := "constructors", desc := "()I" } : Jvm.MethodName)) ∈ lw_tbl := lw_at lw_m3 101 rfl
theorem q779 : (Jvm.Cond.instanceMethod ({ cls := "CoreSyntax$Syntax", name := "constructors", desc := "()I" } : Jvm.MethodName)) ∈ lw_all := lw_g (lw_at lw_m3 102 rfl) rfl
theorem q780 : (Jvm.Cond.code ({ cls := "CoreSyntax$Syntax", name := "constructors", desc := "()I" } : Jvm.MethodName) prog_3_method_85_code (5 : Nat) (Option.some Jvm.ClassFile.FieldType.int)) ∈ lw_all := lw_g (lw_at lw_m3 103 rfl) rfl
theorem q781 : (Jvm.Cond.methodLink "CoreSyntax$Syntax" (377 : Nat) ({ cls := "CoreSyntax$Syntax", name := "newName", desc := "()I" } : Jvm.MethodName)) ∈ lw_all := lw_g (lw_at lw_m3 104 rfl) rfl
theorem q782 : (Jvm.Cond.privateMethod ({ cls := "CoreSyntax$Syntax", name := "newName", desc := "()I" } : Jvm.MethodName)) ∈ lw_tbl := lw_at lw_m3 105 rfl
theorem q783 : (Jvm.Cond.instanceMethod ({ cls := "CoreSyntax$Syntax", name := "newName", desc := "()I" } : Jvm.MethodName)) ∈ lw_all := lw_g (lw_at lw_m3 106 rfl) rfl
theorem q784 : (Jvm.Cond.code ({ cls := "CoreSyntax$Syntax", name := "newName", desc := "()I" } : Jvm.MethodName) prog_3_method_83_code (2 : Nat) (Option.some Jvm.ClassFile.FieldType.int)) ∈ lw_all := lw_g (lw_at lw_m3 107 rfl) rfl
theorem q785 : (Jvm.Cond.methodLink "CoreSyntax$Syntax" (380 : Nat) ({ cls := "CoreSyntax$Syntax", name := "ofType", desc := "()I" } : Jvm.MethodName)) ∈ lw_all := lw_g (lw_at lw_m3 108 rfl) rfl
theorem q786 : (Jvm.Cond.privateMethod ({ cls := "CoreSyntax$Syntax", name := "ofType", desc := "()I" } : Jvm.MethodName)) ∈ lw_tbl := lw_at lw_m3 109 rfl
theorem q787 : (Jvm.Cond.instanceMethod ({ cls := "CoreSyntax$Syntax", name := "ofType", desc := "()I" } : Jvm.MethodName)) ∈ lw_all := lw_g (lw_at lw_m3 110 rfl) rfl
theorem q788 : (Jvm.Cond.code ({ cls := "CoreSyntax$Syntax", name := "ofType", desc := "()I" } : Jvm.MethodName) prog_3_method_84_code (1 : Nat) (Option.some Jvm.ClassFile.FieldType.int)) ∈ lw_all := lw_g (lw_at lw_m3 111 rfl) rfl
theorem q789 : (Jvm.Cond.methodLink "CoreSyntax$Syntax" (389 : Nat) ({ cls := "CoreSyntax$Syntax", name := "withTypes", desc := "()I" } : Jvm.MethodName)) ∈ lw_all := lw_g (lw_at lw_m3 112 rfl) rfl
theorem q790 : (Jvm.Cond.privateMethod ({ cls := "CoreSyntax$Syntax", name := "withTypes", desc := "()I" } : Jvm.MethodName)) ∈ lw_tbl := lw_at lw_m3 113 rfl
theorem q791 : (Jvm.Cond.instanceMethod ({ cls := "CoreSyntax$Syntax", name := "withTypes", desc := "()I" } : Jvm.MethodName)) ∈ lw_all := lw_g (lw_at lw_m3 114 rfl) rfl
theorem q792 : (Jvm.Cond.code ({ cls := "CoreSyntax$Syntax", name := "withTypes", desc := "()I" } : Jvm.MethodName) prog_3_method_87_code (1 : Nat) (Option.some Jvm.ClassFile.FieldType.int)) ∈ lw_all := lw_g (lw_at lw_m3 115 rfl) rfl
theorem q793 : (Jvm.Cond.methodLink "CoreSyntax$Syntax" (356 : Nat) ({ cls := "CoreSyntax$Syntax", name := "abstype", desc := "(I)I" } : Jvm.MethodName)) ∈ lw_all := lw_g (lw_at lw_m3 116 rfl) rfl
theorem q794 : (Jvm.Cond.privateMethod ({ cls := "CoreSyntax$Syntax", name := "abstype", desc := "(I)I" } : Jvm.MethodName)) ∈ lw_tbl := lw_at lw_m3 117 rfl
theorem q795 : (Jvm.Cond.instanceMethod ({ cls := "CoreSyntax$Syntax", name := "abstype", desc := "(I)I" } : Jvm.MethodName)) ∈ lw_all := lw_g (lw_at lw_m3 118 rfl) rfl
theorem q796 : (Jvm.Cond.code ({ cls := "CoreSyntax$Syntax", name := "abstype", desc := "(I)I" } : Jvm.MethodName) prog_3_method_89_code (8 : Nat) (Option.some Jvm.ClassFile.FieldType.int)) ∈ lw_all := lw_g (lw_at lw_m3 119 rfl) rfl
theorem q797 : (Jvm.Cond.methodLink "CoreSyntax$Syntax" (359 : Nat) ({ cls := "CoreSyntax$Syntax", name := "exceptions", desc := "()I" } : Jvm.MethodName)) ∈ lw_all := lw_g (lw_at lw_m3 120 rfl) rfl
theorem q798 : (Jvm.Cond.privateMethod ({ cls := "CoreSyntax$Syntax", name := "exceptions", desc := "()I" } : Jvm.MethodName)) ∈ lw_tbl := lw_at lw_m3 121 rfl
theorem q799 : (Jvm.Cond.instanceMethod ({ cls := "CoreSyntax$Syntax", name := "exceptions", desc := "()I" } : Jvm.MethodName)) ∈ lw_all := lw_g (lw_at lw_m3 122 rfl) rfl
theorem q800 : (Jvm.Cond.code ({ cls := "CoreSyntax$Syntax", name := "exceptions", desc := "()I" } : Jvm.MethodName) prog_3_method_90_code (6 : Nat) (Option.some Jvm.ClassFile.FieldType.int)) ∈ lw_all := lw_g (lw_at lw_m3 123 rfl) rfl
theorem q801 : (Jvm.Cond.methodLink "CoreSyntax$Syntax" (362 : Nat) ({ cls := "CoreSyntax$Syntax", name := "local", desc := "(I)I" } : Jvm.MethodName)) ∈ lw_all := lw_g (lw_at lw_m3 124 rfl) rfl
theorem q802 : (Jvm.Cond.privateMethod ({ cls := "CoreSyntax$Syntax", name := "local", desc := "(I)I" } : Jvm.MethodName)) ∈ lw_tbl := lw_at lw_m3 125 rfl
theorem q803 : (Jvm.Cond.instanceMethod ({ cls := "CoreSyntax$Syntax", name := "local", desc := "(I)I" } : Jvm.MethodName)) ∈ lw_all := lw_g (lw_at lw_m3 126 rfl) rfl
theorem q804 : (Jvm.Cond.code ({ cls := "CoreSyntax$Syntax", name := "local", desc := "(I)I" } : Jvm.MethodName) prog_3_method_91_code (6 : Nat) (Option.some Jvm.ClassFile.FieldType.int)) ∈ lw_all := lw_g (lw_at lw_m3 127 rfl) rfl
theorem q805 : (Jvm.Cond.methodLink "CoreSyntax$Syntax" (392 : Nat) ({ cls := "CoreSyntax$Syntax", name := "forget", desc := "(II)V" } : Jvm.MethodName)) ∈ lw_all := lw_g (lw_at lw_m3 128 rfl) rfl
theorem q806 : (Jvm.Cond.privateMethod ({ cls := "CoreSyntax$Syntax", name := "forget", desc := "(II)V" } : Jvm.MethodName)) ∈ lw_tbl := lw_at lw_m3 129 rfl
theorem q807 : (Jvm.Cond.instanceMethod ({ cls := "CoreSyntax$Syntax", name := "forget", desc := "(II)V" } : Jvm.MethodName)) ∈ lw_all := lw_g (lw_at lw_m3 130 rfl) rfl
theorem q808 : (Jvm.Cond.code ({ cls := "CoreSyntax$Syntax", name := "forget", desc := "(II)V" } : Jvm.MethodName) prog_3_method_95_code (5 : Nat) (Option.none : Option Jvm.ClassFile.FieldType)) ∈ lw_all := lw_g (lw_at lw_m3 131 rfl) rfl
theorem q809 : (Jvm.Cond.methodLink "CoreSyntax$Syntax" (395 : Nat) ({ cls := "CoreSyntax$Syntax", name := "change", desc := "(II)V" } : Jvm.MethodName)) ∈ lw_all := lw_g (lw_at lw_m3 132 rfl) rfl
theorem q810 : (Jvm.Cond.privateMethod ({ cls := "CoreSyntax$Syntax", name := "change", desc := "(II)V" } : Jvm.MethodName)) ∈ lw_tbl := lw_at lw_m3 133 rfl
theorem q811 : (Jvm.Cond.instanceMethod ({ cls := "CoreSyntax$Syntax", name := "change", desc := "(II)V" } : Jvm.MethodName)) ∈ lw_all := lw_g (lw_at lw_m3 134 rfl) rfl
theorem q812 : (Jvm.Cond.code ({ cls := "CoreSyntax$Syntax", name := "change", desc := "(II)V" } : Jvm.MethodName) prog_3_method_93_code (3 : Nat) (Option.none : Option Jvm.ClassFile.FieldType)) ∈ lw_all := lw_g (lw_at lw_m3 135 rfl) rfl
theorem q813 : (Jvm.Cond.methodLink "CoreSyntax$Syntax" (365 : Nat) ({ cls := "CoreSyntax$Syntax", name := "opened", desc := "()I" } : Jvm.MethodName)) ∈ lw_all := lw_g (lw_at lw_m3 136 rfl) rfl
theorem q814 : (Jvm.Cond.privateMethod ({ cls := "CoreSyntax$Syntax", name := "opened", desc := "()I" } : Jvm.MethodName)) ∈ lw_tbl := lw_at lw_m3 137 rfl
theorem q815 : (Jvm.Cond.instanceMethod ({ cls := "CoreSyntax$Syntax", name := "opened", desc := "()I" } : Jvm.MethodName)) ∈ lw_all := lw_g (lw_at lw_m3 138 rfl) rfl
theorem q816 : (Jvm.Cond.code ({ cls := "CoreSyntax$Syntax", name := "opened", desc := "()I" } : Jvm.MethodName) prog_3_method_92_code (4 : Nat) (Option.some Jvm.ClassFile.FieldType.int)) ∈ lw_all := lw_g (lw_at lw_m3 139 rfl) rfl
theorem q817 : (Jvm.Cond.methodLink "CoreSyntax$Syntax" (368 : Nat) ({ cls := "CoreSyntax$Syntax", name := "directive", desc := "(I)V" } : Jvm.MethodName)) ∈ lw_all := lw_g (lw_at lw_m3 140 rfl) rfl
theorem q818 : (Jvm.Cond.privateMethod ({ cls := "CoreSyntax$Syntax", name := "directive", desc := "(I)V" } : Jvm.MethodName)) ∈ lw_tbl := lw_at lw_m3 141 rfl
theorem q819 : (Jvm.Cond.instanceMethod ({ cls := "CoreSyntax$Syntax", name := "directive", desc := "(I)V" } : Jvm.MethodName)) ∈ lw_all := lw_g (lw_at lw_m3 142 rfl) rfl
theorem q820 : (Jvm.Cond.code ({ cls := "CoreSyntax$Syntax", name := "directive", desc := "(I)V" } : Jvm.MethodName) prog_3_method_96_code (4 : Nat) (Option.none : Option Jvm.ClassFile.FieldType)) ∈ lw_all := lw_g (lw_at lw_m3 143 rfl) rfl
theorem q821 : (Jvm.Cond.methodLink "CoreSyntax$Syntax" (422 : Nat) ({ cls := "CoreSyntax$Syntax", name := "sort", desc := "(I)V" } : Jvm.MethodName)) ∈ lw_all := lw_g (lw_at lw_m3 144 rfl) rfl
theorem q822 : (Jvm.Cond.privateMethod ({ cls := "CoreSyntax$Syntax", name := "sort", desc := "(I)V" } : Jvm.MethodName)) ∈ lw_tbl := lw_at lw_m3 145 rfl
theorem q823 : (Jvm.Cond.instanceMethod ({ cls := "CoreSyntax$Syntax", name := "sort", desc := "(I)V" } : Jvm.MethodName)) ∈ lw_all := lw_g (lw_at lw_m3 146 rfl) rfl
theorem q824 : (Jvm.Cond.code ({ cls := "CoreSyntax$Syntax", name := "sort", desc := "(I)V" } : Jvm.MethodName) prog_3_method_111_code (7 : Nat) (Option.none : Option Jvm.ClassFile.FieldType)) ∈ lw_all := lw_g (lw_at lw_m3 147 rfl) rfl
theorem q825 : (Jvm.Cond.methodLink "CoreSyntax$Syntax" (437 : Nat) ({ cls := "CoreSyntax$Syntax", name := "child", desc := "(II)I" } : Jvm.MethodName)) ∈ lw_all := lw_g (lw_at lw_m3 148 rfl) rfl
theorem q826 : (Jvm.Cond.privateMethod ({ cls := "CoreSyntax$Syntax", name := "child", desc := "(II)I" } : Jvm.MethodName)) ∈ lw_tbl := lw_at lw_m3 149 rfl
theorem q827 : (Jvm.Cond.instanceMethod ({ cls := "CoreSyntax$Syntax", name := "child", desc := "(II)I" } : Jvm.MethodName)) ∈ lw_all := lw_g (lw_at lw_m3 150 rfl) rfl
theorem q828 : (Jvm.Cond.code ({ cls := "CoreSyntax$Syntax", name := "child", desc := "(II)I" } : Jvm.MethodName) prog_3_method_110_code (3 : Nat) (Option.some Jvm.ClassFile.FieldType.int)) ∈ lw_all := lw_g (lw_at lw_m3 151 rfl) rfl
theorem q829 : (Jvm.Cond.methodLink "CoreSyntax$Syntax" (431 : Nat) ({ cls := "CoreSyntax$Syntax", name := "children", desc := "(I)I" } : Jvm.MethodName)) ∈ lw_all := lw_g (lw_at lw_m3 152 rfl) rfl
theorem q830 : (Jvm.Cond.static ({ cls := "CoreSyntax$Syntax", name := "children", desc := "(I)I" } : Jvm.MethodName)) ∈ lw_all := lw_g (lw_at lw_m3 153 rfl) rfl
theorem q831 : (Jvm.Cond.code ({ cls := "CoreSyntax$Syntax", name := "children", desc := "(I)I" } : Jvm.MethodName) prog_3_method_108_code (1 : Nat) (Option.some Jvm.ClassFile.FieldType.int)) ∈ lw_all := lw_g (lw_at lw_m3 154 rfl) rfl
theorem q832 : (Jvm.Cond.methodLink "CoreSyntax$Syntax" (434 : Nat) ({ cls := "CoreSyntax$Syntax", name := "part", desc := "(II)I" } : Jvm.MethodName)) ∈ lw_all := lw_g (lw_at lw_m3 155 rfl) rfl
theorem q833 : (Jvm.Cond.privateMethod ({ cls := "CoreSyntax$Syntax", name := "part", desc := "(II)I" } : Jvm.MethodName)) ∈ lw_tbl := lw_at lw_m3 156 rfl
theorem q834 : (Jvm.Cond.instanceMethod ({ cls := "CoreSyntax$Syntax", name := "part", desc := "(II)I" } : Jvm.MethodName)) ∈ lw_all := lw_g (lw_at lw_m3 157 rfl) rfl
theorem q835 : (Jvm.Cond.code ({ cls := "CoreSyntax$Syntax", name := "part", desc := "(II)I" } : Jvm.MethodName) prog_3_method_109_code (3 : Nat) (Option.some Jvm.ClassFile.FieldType.int)) ∈ lw_all := lw_g (lw_at lw_m3 158 rfl) rfl
theorem q836 : (Jvm.Cond.methodLink "CoreSyntax$Syntax" (440 : Nat) ({ cls := "CoreSyntax$Syntax", name := "point", desc := "(I)V" } : Jvm.MethodName)) ∈ lw_all := lw_g (lw_at lw_m3 159 rfl) rfl
theorem q837 : (Jvm.Cond.privateMethod ({ cls := "CoreSyntax$Syntax", name := "point", desc := "(I)V" } : Jvm.MethodName)) ∈ lw_tbl := lw_at lw_m3 160 rfl
theorem q838 : (Jvm.Cond.instanceMethod ({ cls := "CoreSyntax$Syntax", name := "point", desc := "(I)V" } : Jvm.MethodName)) ∈ lw_all := lw_g (lw_at lw_m3 161 rfl) rfl
theorem q839 : (Jvm.Cond.code ({ cls := "CoreSyntax$Syntax", name := "point", desc := "(I)V" } : Jvm.MethodName) prog_3_method_112_code (3 : Nat) (Option.none : Option Jvm.ClassFile.FieldType)) ∈ lw_all := lw_g (lw_at lw_m3 162 rfl) rfl
theorem q840 : (Jvm.Cond.methodLink "CoreSyntax$Syntax" (443 : Nat) ({ cls := "CoreSyntax$Syntax", name := "exchange", desc := "(II)V" } : Jvm.MethodName)) ∈ lw_all := lw_g (lw_at lw_m3 163 rfl) rfl
theorem q841 : (Jvm.Cond.privateMethod ({ cls := "CoreSyntax$Syntax", name := "exchange", desc := "(II)V" } : Jvm.MethodName)) ∈ lw_tbl := lw_at lw_m3 164 rfl
theorem q842 : (Jvm.Cond.instanceMethod ({ cls := "CoreSyntax$Syntax", name := "exchange", desc := "(II)V" } : Jvm.MethodName)) ∈ lw_all := lw_g (lw_at lw_m3 165 rfl) rfl
theorem q843 : (Jvm.Cond.code ({ cls := "CoreSyntax$Syntax", name := "exchange", desc := "(II)V" } : Jvm.MethodName) prog_3_method_113_code (3 : Nat) (Option.none : Option Jvm.ClassFile.FieldType)) ∈ lw_all := lw_g (lw_at lw_m3 166 rfl) rfl
theorem q844 : (Jvm.Cond.methodLink "CoreSyntax$Syntax" (446 : Nat) ({ cls := "CoreSyntax$Syntax", name := "rename", desc := "(I)V" } : Jvm.MethodName)) ∈ lw_all := lw_g (lw_at lw_m3 167 rfl) rfl
theorem q845 : (Jvm.Cond.privateMethod ({ cls := "CoreSyntax$Syntax", name := "rename", desc := "(I)V" } : Jvm.MethodName)) ∈ lw_tbl := lw_at lw_m3 168 rfl
theorem q846 : (Jvm.Cond.instanceMethod ({ cls := "CoreSyntax$Syntax", name := "rename", desc := "(I)V" } : Jvm.MethodName)) ∈ lw_all := lw_g (lw_at lw_m3 169 rfl) rfl
theorem q847 : (Jvm.Cond.code ({ cls := "CoreSyntax$Syntax", name := "rename", desc := "(I)V" } : Jvm.MethodName) prog_3_method_114_code (6 : Nat) (Option.none : Option Jvm.ClassFile.FieldType)) ∈ lw_all := lw_g (lw_at lw_m3 170 rfl) rfl
theorem q848 : (Jvm.Cond.methodLink "CoreSyntax$Syntax" (425 : Nat) ({ cls := "CoreSyntax$Syntax", name := "clear", desc := "()I" } : Jvm.MethodName)) ∈ lw_all := lw_g (lw_at lw_m3 171 rfl) rfl
theorem q849 : (Jvm.Cond.methodLink "CoreSyntax$Syntax" (428 : Nat) ({ cls := "CoreSyntax$Syntax", name := "drop", desc := "(I)V" } : Jvm.MethodName)) ∈ lw_all := lw_g (lw_at lw_m3 172 rfl) rfl
theorem q850 : (Jvm.Cond.privateMethod ({ cls := "CoreSyntax$Syntax", name := "drop", desc := "(I)V" } : Jvm.MethodName)) ∈ lw_tbl := lw_at lw_m3 173 rfl
theorem q851 : (Jvm.Cond.instanceMethod ({ cls := "CoreSyntax$Syntax", name := "drop", desc := "(I)V" } : Jvm.MethodName)) ∈ lw_all := lw_g (lw_at lw_m3 174 rfl) rfl
theorem q852 : (Jvm.Cond.code ({ cls := "CoreSyntax$Syntax", name := "drop", desc := "(I)V" } : Jvm.MethodName) prog_3_method_106_code (4 : Nat) (Option.none : Option Jvm.ClassFile.FieldType)) ∈ lw_all := lw_g (lw_at lw_m3 175 rfl) rfl
theorem q854 : (Jvm.Cond.instanceMethod ({ cls := "CoreSyntax$Syntax", name := "nodes", desc := "()I" } : Jvm.MethodName)) ∈ lw_all := lw_g (lw_at lw_m3 177 rfl) rfl
theorem q855 : (Jvm.Cond.selects "CoreSyntax$Syntax" ({ cls := "CoreSyntax$Syntax", name := "nodes", desc := "()I" } : Jvm.MethodName) ({ cls := "CoreSyntax$Syntax", name := "nodes", desc := "()I" } : Jvm.MethodName)) ∈ lw_all := lw_g (lw_at lw_m3 178 rfl) rfl
theorem q856 : (Jvm.Cond.code ({ cls := "CoreSyntax$Syntax", name := "nodes", desc := "()I" } : Jvm.MethodName) prog_3_method_115_code (1 : Nat) (Option.some Jvm.ClassFile.FieldType.int)) ∈ lw_all := lw_g (lw_at lw_m3 179 rfl) rfl
theorem q866 : (Jvm.Cond.instanceMethod ({ cls := "CoreSyntax$Syntax", name := "retreat", desc := "()Z" } : Jvm.MethodName)) ∈ lw_all := lw_g (lw_at lw_m3 189 rfl) rfl
theorem q867 : (Jvm.Cond.selects "CoreSyntax$Syntax" ({ cls := "CoreSyntax$Syntax", name := "retreat", desc := "()Z" } : Jvm.MethodName) ({ cls := "CoreSyntax$Syntax", name := "retreat", desc := "()Z" } : Jvm.MethodName)) ∈ lw_all := lw_g (lw_at lw_m3 190 rfl) rfl
theorem q868 : (Jvm.Cond.code ({ cls := "CoreSyntax$Syntax", name := "retreat", desc := "()Z" } : Jvm.MethodName) prog_3_method_107_code (2 : Nat) (Option.some Jvm.ClassFile.FieldType.boolean)) ∈ lw_all := lw_g (lw_at lw_m3 191 rfl) rfl
theorem q886 : (Jvm.Cond.instanceMethod ({ cls := "CoreSyntax$Syntax", name := "isNode", desc := "(I)Z" } : Jvm.MethodName)) ∈ lw_all := lw_g (lw_at lw_m3 209 rfl) rfl
theorem q887 : (Jvm.Cond.selects "CoreSyntax$Syntax" ({ cls := "CoreSyntax$Syntax", name := "isNode", desc := "(I)Z" } : Jvm.MethodName) ({ cls := "CoreSyntax$Syntax", name := "isNode", desc := "(I)Z" } : Jvm.MethodName)) ∈ lw_all := lw_g (lw_at lw_m3 210 rfl) rfl
theorem q888 : (Jvm.Cond.code ({ cls := "CoreSyntax$Syntax", name := "isNode", desc := "(I)Z" } : Jvm.MethodName) prog_3_method_116_code (2 : Nat) (Option.some Jvm.ClassFile.FieldType.boolean)) ∈ lw_all := lw_g (lw_at lw_m3 211 rfl) rfl
theorem q890 : (Jvm.Cond.instanceMethod ({ cls := "CoreSyntax$Syntax", name := "node", desc := "(II)I" } : Jvm.MethodName)) ∈ lw_all := lw_g (lw_at lw_m3 213 rfl) rfl
theorem q891 : (Jvm.Cond.selects "CoreSyntax$Syntax" ({ cls := "CoreSyntax$Syntax", name := "node", desc := "(II)I" } : Jvm.MethodName) ({ cls := "CoreSyntax$Syntax", name := "node", desc := "(II)I" } : Jvm.MethodName)) ∈ lw_all := lw_g (lw_at lw_m3 214 rfl) rfl
theorem q892 : (Jvm.Cond.code ({ cls := "CoreSyntax$Syntax", name := "node", desc := "(II)I" } : Jvm.MethodName) prog_3_method_117_code (3 : Nat) (Option.some Jvm.ClassFile.FieldType.int)) ∈ lw_all := lw_g (lw_at lw_m3 215 rfl) rfl
theorem q910 : (Jvm.Cond.instanceMethod ({ cls := "CoreSyntax$Syntax", name := "behind", desc := "(I)I" } : Jvm.MethodName)) ∈ lw_all := lw_g (lw_at lw_m3 233 rfl) rfl
theorem q911 : (Jvm.Cond.selects "CoreSyntax$Syntax" ({ cls := "CoreSyntax$Syntax", name := "behind", desc := "(I)I" } : Jvm.MethodName) ({ cls := "CoreSyntax$Syntax", name := "behind", desc := "(I)I" } : Jvm.MethodName)) ∈ lw_all := lw_g (lw_at lw_m3 234 rfl) rfl
theorem q912 : (Jvm.Cond.code ({ cls := "CoreSyntax$Syntax", name := "behind", desc := "(I)I" } : Jvm.MethodName) prog_3_method_118_code (5 : Nat) (Option.some Jvm.ClassFile.FieldType.int)) ∈ lw_all := lw_g (lw_at lw_m3 235 rfl) rfl
theorem q918 : (Jvm.Cond.instanceMethod ({ cls := "CoreSyntax$Syntax", name := "same", desc := "(II)Z" } : Jvm.MethodName)) ∈ lw_all := lw_g (lw_at lw_m4 1 rfl) rfl
theorem q919 : (Jvm.Cond.selects "CoreSyntax$Syntax" ({ cls := "CoreSyntax$Syntax", name := "same", desc := "(II)Z" } : Jvm.MethodName) ({ cls := "CoreSyntax$Syntax", name := "same", desc := "(II)Z" } : Jvm.MethodName)) ∈ lw_all := lw_g (lw_at lw_m4 2 rfl) rfl
theorem q920 : (Jvm.Cond.code ({ cls := "CoreSyntax$Syntax", name := "same", desc := "(II)Z" } : Jvm.MethodName) prog_3_method_119_code (10 : Nat) (Option.some Jvm.ClassFile.FieldType.boolean)) ∈ lw_all := lw_g (lw_at lw_m4 3 rfl) rfl
theorem q921 : (Jvm.Cond.methodLink "CoreSyntax$Syntax" (449 : Nat) ({ cls := "CoreSyntax$Syntax", name := "behind", desc := "(I)I" } : Jvm.MethodName)) ∈ lw_all := lw_g (lw_at lw_m4 4 rfl) rfl
theorem in_X1 : ∀ w ∈ wsX10, w ∈ lw_all := lw_in wsX10 [271, 273, 275, 277, 279, 281, 283, 285, 287, 289, 291, 293, 295, 297, 299, 301, 303, 305, 307, 309, 311, 313, 315] (by decide +kernel) (by decide +kernel)

/-! CoreSyntax$Row -/
def RX2 : String := "CoreSyntax$Row"
def TX2 : u_T := fun k => match k with
  | 0 => ("CoreSyntax$Row", "cells", "[I", false)
  | _ => ("CoreSyntax$Row", "size", "I", false)
def tyX2 : Nat → FieldType := fun k => match k with
  | 0 => .array .int
  | _ => .int
abbrev wsX20 : List Cond := u_ws RX2 TX2 2
theorem nmX2 : ∀ a, a < 2 → ∀ b, b < 2 → a ≠ b → (TX2 a).2.1 ≠ (TX2 b).2.1 := by decide +kernel
theorem tyX2_ok : ∀ k, k < 2 → parseFieldDescriptor (TX2 k).2.2.1 = some (tyX2 k) := by decide +kernel
abbrev cX2_init : ByteArray := prog_2_method_1_code
def yX2_init : MethodName := ⟨RX2, "<init>", "()V"⟩
theorem dX2_init_0 : decode cX2_init 0 = .ok (.aload_n 0, 1) := by decide +kernel
theorem dX2_init_1 : decode cX2_init 1 = .ok (.invokespecial 1, 3) := by decide +kernel
theorem dX2_init_4 : decode cX2_init 4 = .ok (.aload_n 0, 1) := by decide +kernel
theorem dX2_init_5 : decode cX2_init 5 = .ok (.bipush 64, 2) := by decide +kernel
theorem dX2_init_7 : decode cX2_init 7 = .ok (.newarray .int, 2) := by decide +kernel
theorem dX2_init_9 : decode cX2_init 9 = .ok (.putfield 7, 3) := by decide +kernel
theorem dX2_init_12 : decode cX2_init 12 = .ok (.return_, 1) := by decide +kernel
abbrev cX2_add : ByteArray := prog_2_method_2_code
def yX2_add : MethodName := ⟨RX2, "add", "(I)V"⟩
theorem dX2_add_0 : decode cX2_add 0 = .ok (.aload_n 0, 1) := by decide +kernel
theorem dX2_add_1 : decode cX2_add 1 = .ok (.getfield 13, 3) := by decide +kernel
theorem dX2_add_4 : decode cX2_add 4 = .ok (.aload_n 0, 1) := by decide +kernel
theorem dX2_add_5 : decode cX2_add 5 = .ok (.getfield 7, 3) := by decide +kernel
theorem dX2_add_8 : decode cX2_add 8 = .ok (.arraylength, 1) := by decide +kernel
theorem dX2_add_9 : decode cX2_add 9 = .ok (.if_icmp .ne 31, 3) := by decide +kernel
theorem dX2_add_12 : decode cX2_add 12 = .ok (.iconst 2, 1) := by decide +kernel
theorem dX2_add_13 : decode cX2_add 13 = .ok (.aload_n 0, 1) := by decide +kernel
theorem dX2_add_14 : decode cX2_add 14 = .ok (.getfield 13, 3) := by decide +kernel
theorem dX2_add_17 : decode cX2_add 17 = .ok (.imul, 1) := by decide +kernel
theorem dX2_add_18 : decode cX2_add 18 = .ok (.newarray .int, 2) := by decide +kernel
theorem dX2_add_20 : decode cX2_add 20 = .ok (.astore_n 2, 1) := by decide +kernel
theorem dX2_add_21 : decode cX2_add 21 = .ok (.aload_n 0, 1) := by decide +kernel
theorem dX2_add_22 : decode cX2_add 22 = .ok (.getfield 7, 3) := by decide +kernel
theorem dX2_add_25 : decode cX2_add 25 = .ok (.iconst 0, 1) := by decide +kernel
theorem dX2_add_26 : decode cX2_add 26 = .ok (.aload_n 2, 1) := by decide +kernel
theorem dX2_add_27 : decode cX2_add 27 = .ok (.iconst 0, 1) := by decide +kernel
theorem dX2_add_28 : decode cX2_add 28 = .ok (.aload_n 0, 1) := by decide +kernel
theorem dX2_add_29 : decode cX2_add 29 = .ok (.getfield 13, 3) := by decide +kernel
theorem dX2_add_32 : decode cX2_add 32 = .ok (.invokestatic 17, 3) := by decide +kernel
theorem dX2_add_35 : decode cX2_add 35 = .ok (.aload_n 0, 1) := by decide +kernel
theorem dX2_add_36 : decode cX2_add 36 = .ok (.aload_n 2, 1) := by decide +kernel
theorem dX2_add_37 : decode cX2_add 37 = .ok (.putfield 7, 3) := by decide +kernel
theorem dX2_add_40 : decode cX2_add 40 = .ok (.aload_n 0, 1) := by decide +kernel
theorem dX2_add_41 : decode cX2_add 41 = .ok (.getfield 7, 3) := by decide +kernel
theorem dX2_add_44 : decode cX2_add 44 = .ok (.aload_n 0, 1) := by decide +kernel
theorem dX2_add_45 : decode cX2_add 45 = .ok (.dup, 1) := by decide +kernel
theorem dX2_add_46 : decode cX2_add 46 = .ok (.getfield 13, 3) := by decide +kernel
theorem dX2_add_49 : decode cX2_add 49 = .ok (.dup_x1, 1) := by decide +kernel
theorem dX2_add_50 : decode cX2_add 50 = .ok (.iconst 1, 1) := by decide +kernel
theorem dX2_add_51 : decode cX2_add 51 = .ok (.iadd, 1) := by decide +kernel
theorem dX2_add_52 : decode cX2_add 52 = .ok (.putfield 13, 3) := by decide +kernel
theorem dX2_add_55 : decode cX2_add 55 = .ok (.iload_n 1, 1) := by decide +kernel
theorem dX2_add_56 : decode cX2_add 56 = .ok (.iastore, 1) := by decide +kernel
theorem dX2_add_57 : decode cX2_add 57 = .ok (.return_, 1) := by decide +kernel
abbrev cX2_pop : ByteArray := prog_2_method_3_code
def yX2_pop : MethodName := ⟨RX2, "pop", "()I"⟩
theorem dX2_pop_0 : decode cX2_pop 0 = .ok (.aload_n 0, 1) := by decide +kernel
theorem dX2_pop_1 : decode cX2_pop 1 = .ok (.getfield 7, 3) := by decide +kernel
theorem dX2_pop_4 : decode cX2_pop 4 = .ok (.aload_n 0, 1) := by decide +kernel
theorem dX2_pop_5 : decode cX2_pop 5 = .ok (.dup, 1) := by decide +kernel
theorem dX2_pop_6 : decode cX2_pop 6 = .ok (.getfield 13, 3) := by decide +kernel
theorem dX2_pop_9 : decode cX2_pop 9 = .ok (.iconst 1, 1) := by decide +kernel
theorem dX2_pop_10 : decode cX2_pop 10 = .ok (.isub, 1) := by decide +kernel
theorem dX2_pop_11 : decode cX2_pop 11 = .ok (.dup_x1, 1) := by decide +kernel
theorem dX2_pop_12 : decode cX2_pop 12 = .ok (.putfield 13, 3) := by decide +kernel
theorem dX2_pop_15 : decode cX2_pop 15 = .ok (.iaload, 1) := by decide +kernel
theorem dX2_pop_16 : decode cX2_pop 16 = .ok (.ireturn, 1) := by decide +kernel
abbrev cX2_swap : ByteArray := prog_2_method_4_code
def yX2_swap : MethodName := ⟨RX2, "swap", "(II)V"⟩
theorem dX2_swap_0 : decode cX2_swap 0 = .ok (.aload_n 0, 1) := by decide +kernel
theorem dX2_swap_1 : decode cX2_swap 1 = .ok (.getfield 7, 3) := by decide +kernel
theorem dX2_swap_4 : decode cX2_swap 4 = .ok (.iload_n 1, 1) := by decide +kernel
theorem dX2_swap_5 : decode cX2_swap 5 = .ok (.iaload, 1) := by decide +kernel
theorem dX2_swap_6 : decode cX2_swap 6 = .ok (.istore_n 3, 1) := by decide +kernel
theorem dX2_swap_7 : decode cX2_swap 7 = .ok (.aload_n 0, 1) := by decide +kernel
theorem dX2_swap_8 : decode cX2_swap 8 = .ok (.getfield 7, 3) := by decide +kernel
theorem dX2_swap_11 : decode cX2_swap 11 = .ok (.iload_n 1, 1) := by decide +kernel
theorem dX2_swap_12 : decode cX2_swap 12 = .ok (.aload_n 0, 1) := by decide +kernel
theorem dX2_swap_13 : decode cX2_swap 13 = .ok (.getfield 7, 3) := by decide +kernel
theorem dX2_swap_16 : decode cX2_swap 16 = .ok (.iload_n 2, 1) := by decide +kernel
theorem dX2_swap_17 : decode cX2_swap 17 = .ok (.iaload, 1) := by decide +kernel
theorem dX2_swap_18 : decode cX2_swap 18 = .ok (.iastore, 1) := by decide +kernel
theorem dX2_swap_19 : decode cX2_swap 19 = .ok (.aload_n 0, 1) := by decide +kernel
theorem dX2_swap_20 : decode cX2_swap 20 = .ok (.getfield 7, 3) := by decide +kernel
theorem dX2_swap_23 : decode cX2_swap 23 = .ok (.iload_n 2, 1) := by decide +kernel
theorem dX2_swap_24 : decode cX2_swap 24 = .ok (.iload_n 3, 1) := by decide +kernel
theorem dX2_swap_25 : decode cX2_swap 25 = .ok (.iastore, 1) := by decide +kernel
theorem dX2_swap_26 : decode cX2_swap 26 = .ok (.return_, 1) := by decide +kernel
theorem q200 : (Jvm.Cond.initialized "CoreSyntax$Row") ∈ lw_all := lw_g (lw_at lw_m1 3 rfl) rfl
theorem q223 : (Jvm.Cond.instantiable "CoreSyntax$Row" (2 : Nat)) ∈ lw_all := lw_g (lw_at lw_m1 26 rfl) rfl
theorem q225 : (Jvm.Cond.instanceMethod ({ cls := "CoreSyntax$Row", name := "<init>", desc := "()V" } : Jvm.MethodName)) ∈ lw_all := lw_g (lw_at lw_m1 28 rfl) rfl
theorem q226 : (Jvm.Cond.code ({ cls := "CoreSyntax$Row", name := "<init>", desc := "()V" } : Jvm.MethodName) prog_2_method_1_code (1 : Nat) (Option.none : Option Jvm.ClassFile.FieldType)) ∈ lw_all := lw_g (lw_at lw_m1 29 rfl) rfl
theorem q227 : (Jvm.Cond.methodLink "CoreSyntax$Row" (1 : Nat) ({ cls := "java/lang/Object", name := "<init>", desc := "()V" } : Jvm.MethodName)) ∈ lw_all := lw_g (lw_at lw_m1 30 rfl) rfl
theorem q228 : (Jvm.Cond.fieldLink "CoreSyntax$Row" (7 : Nat) "CoreSyntax$Row" "cells" "[I") ∈ lw_all := lw_g (lw_at lw_m1 31 rfl) rfl
theorem q230 : (Jvm.Cond.fieldLink "CoreSyntax$Row" (13 : Nat) "CoreSyntax$Row" "size" "I") ∈ lw_all := lw_g (lw_at lw_m1 33 rfl) rfl
theorem q233 : (Jvm.Cond.lays "CoreSyntax$Row" "CoreSyntax$Row" "cells" "[I") ∈ lw_all := lw_g (lw_at lw_m1 36 rfl) rfl
theorem q234 : (Jvm.Cond.soleField "CoreSyntax$Row" "cells") ∈ lw_all := lw_g (lw_at lw_m1 37 rfl) rfl
theorem q235 : (Jvm.Cond.lays "CoreSyntax$Row" "CoreSyntax$Row" "size" "I") ∈ lw_all := lw_g (lw_at lw_m1 38 rfl) rfl
theorem q236 : (Jvm.Cond.soleField "CoreSyntax$Row" "size") ∈ lw_all := lw_g (lw_at lw_m1 39 rfl) rfl
theorem q237 : (Jvm.Cond.superclass "CoreSyntax$Row" "java/lang/Object") ∈ lw_all := lw_g (lw_at lw_m1 40 rfl) rfl
theorem q340 : (Jvm.Cond.instanceMethod ({ cls := "CoreSyntax$Row", name := "add", desc := "(I)V" } : Jvm.MethodName)) ∈ lw_all := lw_g (lw_at lw_m1 143 rfl) rfl
theorem q341 : (Jvm.Cond.selects "CoreSyntax$Row" ({ cls := "CoreSyntax$Row", name := "add", desc := "(I)V" } : Jvm.MethodName) ({ cls := "CoreSyntax$Row", name := "add", desc := "(I)V" } : Jvm.MethodName)) ∈ lw_all := lw_g (lw_at lw_m1 144 rfl) rfl
theorem q342 : (Jvm.Cond.code ({ cls := "CoreSyntax$Row", name := "add", desc := "(I)V" } : Jvm.MethodName) prog_2_method_2_code (3 : Nat) (Option.none : Option Jvm.ClassFile.FieldType)) ∈ lw_all := lw_g (lw_at lw_m1 145 rfl) rfl
theorem q343 : (Jvm.Cond.methodLink "CoreSyntax$Row" (17 : Nat) ({ cls := "java/lang/System", name := "arraycopy", desc := "(Ljava/lang/Object;ILjava/lang/Object;II)V" } : Jvm.MethodName)) ∈ lw_all := lw_g (lw_at lw_m1 146 rfl) rfl
theorem q500 : (Jvm.Cond.instanceMethod ({ cls := "CoreSyntax$Row", name := "pop", desc := "()I" } : Jvm.MethodName)) ∈ lw_all := lw_g (lw_at lw_m2 63 rfl) rfl
theorem q501 : (Jvm.Cond.selects "CoreSyntax$Row" ({ cls := "CoreSyntax$Row", name := "pop", desc := "()I" } : Jvm.MethodName) ({ cls := "CoreSyntax$Row", name := "pop", desc := "()I" } : Jvm.MethodName)) ∈ lw_all := lw_g (lw_at lw_m2 64 rfl) rfl
theorem q502 : (Jvm.Cond.code ({ cls := "CoreSyntax$Row", name := "pop", desc := "()I" } : Jvm.MethodName) prog_2_method_3_code (1 : Nat) (Option.some Jvm.ClassFile.FieldType.int)) ∈ lw_all := lw_g (lw_at lw_m2 65 rfl) rfl
theorem q575 : (Jvm.Cond.instanceMethod ({ cls := "CoreSyntax$Row", name := "swap", desc := "(II)V" } : Jvm.MethodName)) ∈ lw_all := lw_g (lw_at lw_m2 138 rfl) rfl
theorem q576 : (Jvm.Cond.selects "CoreSyntax$Row" ({ cls := "CoreSyntax$Row", name := "swap", desc := "(II)V" } : Jvm.MethodName) ({ cls := "CoreSyntax$Row", name := "swap", desc := "(II)V" } : Jvm.MethodName)) ∈ lw_all := lw_g (lw_at lw_m2 139 rfl) rfl
theorem q577 : (Jvm.Cond.code ({ cls := "CoreSyntax$Row", name := "swap", desc := "(II)V" } : Jvm.MethodName) prog_2_method_4_code (4 : Nat) (Option.none : Option Jvm.ClassFile.FieldType)) ∈ lw_all := lw_g (lw_at lw_m2 140 rfl) rfl
theorem in_X2 : ∀ w ∈ wsX20, w ∈ lw_all := lw_in wsX20 [233, 235] (by decide +kernel) (by decide +kernel)

theorem q197 : (Jvm.Cond.initialized "CoreSyntaxLaw") ∈ lw_all := lw_g (lw_at lw_m1 0 rfl) rfl
theorem q208 : (Jvm.Cond.classLink "CoreSyntaxLaw" (7 : Nat) "CoreSyntax") ∈ lw_all := lw_g (lw_at lw_m1 11 rfl) rfl
theorem q210 : (Jvm.Cond.methodLink "CoreSyntaxLaw" (9 : Nat) ({ cls := "CoreSyntax", name := "<init>", desc := "()V" } : Jvm.MethodName)) ∈ lw_all := lw_g (lw_at lw_m1 13 rfl) rfl
theorem q323 : (Jvm.Cond.methodLink "CoreSyntaxLaw" (13 : Nat) ({ cls := "CoreSyntax", name := "token", desc := "(III)I" } : Jvm.MethodName)) ∈ lw_all := lw_g (lw_at lw_m1 126 rfl) rfl
theorem q346 : (Jvm.Cond.methodLink "CoreSyntaxLaw" (18 : Nat) ({ cls := "CoreSyntax", name := "clear", desc := "()I" } : Jvm.MethodName)) ∈ lw_all := lw_g (lw_at lw_m1 149 rfl) rfl
theorem q354 : (Jvm.Cond.methodLink "CoreSyntaxLaw" (23 : Nat) ({ cls := "CoreSyntax", name := "parse", desc := "()I" } : Jvm.MethodName)) ∈ lw_all := lw_g (lw_at lw_m1 157 rfl) rfl
theorem q857 : (Jvm.Cond.methodLink "CoreSyntaxLaw" (27 : Nat) ({ cls := "CoreSyntax", name := "fault", desc := "(I)I" } : Jvm.MethodName)) ∈ lw_all := lw_g (lw_at lw_m3 180 rfl) rfl
theorem q861 : (Jvm.Cond.methodLink "CoreSyntaxLaw" (32 : Nat) ({ cls := "CoreSyntax", name := "retreat", desc := "()Z" } : Jvm.MethodName)) ∈ lw_all := lw_g (lw_at lw_m3 184 rfl) rfl
theorem q869 : (Jvm.Cond.methodLink "CoreSyntaxLaw" (37 : Nat) ({ cls := "CoreSyntax", name := "fixity", desc := "(I)I" } : Jvm.MethodName)) ∈ lw_all := lw_g (lw_at lw_m3 192 rfl) rfl
theorem q873 : (Jvm.Cond.methodLink "CoreSyntaxLaw" (41 : Nat) ({ cls := "CoreSyntax", name := "tokens", desc := "()I" } : Jvm.MethodName)) ∈ lw_all := lw_g (lw_at lw_m3 196 rfl) rfl
theorem q877 : (Jvm.Cond.methodLink "CoreSyntaxLaw" (45 : Nat) ({ cls := "CoreSyntax", name := "nodes", desc := "()I" } : Jvm.MethodName)) ∈ lw_all := lw_g (lw_at lw_m3 200 rfl) rfl
theorem q881 : (Jvm.Cond.methodLink "CoreSyntaxLaw" (49 : Nat) ({ cls := "CoreSyntax", name := "node", desc := "(II)I" } : Jvm.MethodName)) ∈ lw_all := lw_g (lw_at lw_m3 204 rfl) rfl
theorem q893 : (Jvm.Cond.methodLink "CoreSyntaxLaw" (54 : Nat) ({ cls := "CoreSyntax", name := "length", desc := "(I)I" } : Jvm.MethodName)) ∈ lw_all := lw_g (lw_at lw_m3 216 rfl) rfl
theorem q901 : (Jvm.Cond.methodLink "CoreSyntaxLaw" (58 : Nat) ({ cls := "CoreSyntax", name := "item", desc := "(II)I" } : Jvm.MethodName)) ∈ lw_all := lw_g (lw_at lw_m3 224 rfl) rfl
theorem q905 : (Jvm.Cond.methodLink "CoreSyntaxLaw" (62 : Nat) ({ cls := "CoreSyntax", name := "behind", desc := "(I)I" } : Jvm.MethodName)) ∈ lw_all := lw_g (lw_at lw_m3 228 rfl) rfl
theorem q913 : (Jvm.Cond.methodLink "CoreSyntaxLaw" (66 : Nat) ({ cls := "CoreSyntax", name := "same", desc := "(II)Z" } : Jvm.MethodName)) ∈ lw_all := lw_g (lw_at lw_m3 236 rfl) rfl
theorem q922 : (Jvm.Cond.methodLink "CoreSyntaxLaw" (71 : Nat) ({ cls := "CoreSyntax", name := "fresh", desc := "()I" } : Jvm.MethodName)) ∈ lw_all := lw_g (lw_at lw_m4 5 rfl) rfl
theorem q926 : (Jvm.Cond.classLink "CoreSyntaxLaw" (10 : Nat) "CoreSyntaxModel") ∈ lw_all := lw_g (lw_at lw_m4 9 rfl) rfl
theorem q928 : (Jvm.Cond.methodLink "CoreSyntaxLaw" (12 : Nat) ({ cls := "CoreSyntaxModel", name := "<init>", desc := "()V" } : Jvm.MethodName)) ∈ lw_all := lw_g (lw_at lw_m4 11 rfl) rfl
theorem q1019 : (Jvm.Cond.methodLink "CoreSyntaxLaw" (17 : Nat) ({ cls := "CoreSyntaxModel", name := "token", desc := "(III)I" } : Jvm.MethodName)) ∈ lw_all := lw_g (lw_at lw_m4 102 rfl) rfl
theorem q1023 : (Jvm.Cond.methodLink "CoreSyntaxLaw" (22 : Nat) ({ cls := "CoreSyntaxModel", name := "clear", desc := "()I" } : Jvm.MethodName)) ∈ lw_all := lw_g (lw_at lw_m4 106 rfl) rfl
theorem q1027 : (Jvm.Cond.methodLink "CoreSyntaxLaw" (44 : Nat) ({ cls := "CoreSyntaxModel", name := "tokens", desc := "()I" } : Jvm.MethodName)) ∈ lw_all := lw_g (lw_at lw_m4 110 rfl) rfl
theorem q1031 : (Jvm.Cond.methodLink "CoreSyntaxLaw" (26 : Nat) ({ cls := "CoreSyntaxModel", name := "parse", desc := "()I" } : Jvm.MethodName)) ∈ lw_all := lw_g (lw_at lw_m4 114 rfl) rfl
theorem q1408 : (Jvm.Cond.methodLink "CoreSyntaxLaw" (31 : Nat) ({ cls := "CoreSyntaxModel", name := "fault", desc := "(I)I" } : Jvm.MethodName)) ∈ lw_all := lw_g (lw_at lw_m6 11 rfl) rfl
theorem q1412 : (Jvm.Cond.methodLink "CoreSyntaxLaw" (36 : Nat) ({ cls := "CoreSyntaxModel", name := "retreat", desc := "()Z" } : Jvm.MethodName)) ∈ lw_all := lw_g (lw_at lw_m6 15 rfl) rfl
theorem q1416 : (Jvm.Cond.methodLink "CoreSyntaxLaw" (40 : Nat) ({ cls := "CoreSyntaxModel", name := "fixity", desc := "(I)I" } : Jvm.MethodName)) ∈ lw_all := lw_g (lw_at lw_m6 19 rfl) rfl
theorem q1420 : (Jvm.Cond.methodLink "CoreSyntaxLaw" (48 : Nat) ({ cls := "CoreSyntaxModel", name := "nodes", desc := "()I" } : Jvm.MethodName)) ∈ lw_all := lw_g (lw_at lw_m6 23 rfl) rfl
theorem q1424 : (Jvm.Cond.methodLink "CoreSyntaxLaw" (53 : Nat) ({ cls := "CoreSyntaxModel", name := "node", desc := "(II)I" } : Jvm.MethodName)) ∈ lw_all := lw_g (lw_at lw_m6 27 rfl) rfl
theorem q1432 : (Jvm.Cond.methodLink "CoreSyntaxLaw" (57 : Nat) ({ cls := "CoreSyntaxModel", name := "length", desc := "(I)I" } : Jvm.MethodName)) ∈ lw_all := lw_g (lw_at lw_m6 35 rfl) rfl
theorem q1440 : (Jvm.Cond.methodLink "CoreSyntaxLaw" (61 : Nat) ({ cls := "CoreSyntaxModel", name := "item", desc := "(II)I" } : Jvm.MethodName)) ∈ lw_all := lw_g (lw_at lw_m6 43 rfl) rfl
theorem q1444 : (Jvm.Cond.methodLink "CoreSyntaxLaw" (65 : Nat) ({ cls := "CoreSyntaxModel", name := "behind", desc := "(I)I" } : Jvm.MethodName)) ∈ lw_all := lw_g (lw_at lw_m6 47 rfl) rfl
theorem q1448 : (Jvm.Cond.methodLink "CoreSyntaxLaw" (70 : Nat) ({ cls := "CoreSyntaxModel", name := "same", desc := "(II)Z" } : Jvm.MethodName)) ∈ lw_all := lw_g (lw_at lw_m6 51 rfl) rfl
theorem q1452 : (Jvm.Cond.methodLink "CoreSyntaxLaw" (74 : Nat) ({ cls := "CoreSyntaxModel", name := "fresh", desc := "()I" } : Jvm.MethodName)) ∈ lw_all := lw_g (lw_at lw_m6 55 rfl) rfl

theorem q207 : (Jvm.Cond.initialized "java/lang/System") ∈ lw_all := lw_g (lw_at lw_m1 10 rfl) rfl
theorem q344 : (Jvm.Cond.static ({ cls := "java/lang/System", name := "arraycopy", desc := "(Ljava/lang/Object;ILjava/lang/Object;II)V" } : Jvm.MethodName)) ∈ lw_all := lw_g (lw_at lw_m1 147 rfl) rfl
theorem q345 : (Jvm.Cond.native ({ cls := "java/lang/System", name := "arraycopy", desc := "(Ljava/lang/Object;ILjava/lang/Object;II)V" } : Jvm.MethodName)) ∈ lw_all := lw_g (lw_at lw_m1 148 rfl) rfl

theorem q238 : (Jvm.Cond.arrayClass Jvm.ClassFile.FieldType.int) ∈ lw_all := lw_g (lw_at lw_m1 41 rfl) rfl
theorem q318 : (Jvm.Cond.arrayClass Jvm.ClassFile.FieldType.byte) ∈ lw_all := lw_g (lw_at lw_m1 121 rfl) rfl

