set_option maxRecDepth 100000
theorem q598 : (Jvm.Cond.sameMethod "[B" "java/lang/Object" "clone" "()Ljava/lang/Object;") ∈ lw_all := lw_g (lw_at lw_m3 79 rfl) rfl
set_option maxRecDepth 100000
theorem q599 : (Jvm.Cond.selects "[B" ({ cls := "[B", name := "clone", desc := "()Ljava/lang/Object;" } : Jvm.MethodName) ({ cls := "java/lang/Object", name := "clone", desc := "()Ljava/lang/Object;" } : Jvm.MethodName)) ∈ lw_all := lw_g (lw_at lw_m3 80 rfl) rfl
theorem q600 : (Jvm.Cond.castable "[B" "java/lang/Cloneable") ∈ lw_tbl := lw_at lw_m3 81 rfl
theorem q492 : (Jvm.Cond.sameMethod "[I" "java/lang/Object" "clone" "()Ljava/lang/Object;") ∈ lw_all := lw_g (lw_at lw_m2 213 rfl) rfl
set_option maxRecDepth 100000
theorem q495 : (Jvm.Cond.selects "[I" ({ cls := "[I", name := "clone", desc := "()Ljava/lang/Object;" } : Jvm.MethodName) ({ cls := "java/lang/Object", name := "clone", desc := "()Ljava/lang/Object;" } : Jvm.MethodName)) ∈ lw_all := lw_g (lw_at lw_m2 216 rfl) rfl
theorem q496 : (Jvm.Cond.castable "[I" "java/lang/Cloneable") ∈ lw_tbl := lw_at lw_m2 217 rfl
theorem q58 : (Jvm.Cond.initialized "java/lang/System") ∈ lw_all := lw_g (lw_at lw_m1 19 rfl) rfl
set_option maxRecDepth 100000
theorem q462 : (Jvm.Cond.static ({ cls := "java/lang/System", name := "arraycopy", desc := "(Ljava/lang/Object;ILjava/lang/Object;II)V" } : Jvm.MethodName)) ∈ lw_all := lw_g (lw_at lw_m2 183 rfl) rfl
theorem q463 : (Jvm.Cond.native ({ cls := "java/lang/System", name := "arraycopy", desc := "(Ljava/lang/Object;ILjava/lang/Object;II)V" } : Jvm.MethodName)) ∈ lw_all := lw_g (lw_at lw_m2 184 rfl) rfl
theorem q1630 : (Jvm.Cond.interfaceMethod "jdk/internal/access/JavaLangAccess" "jdk/internal/access/JavaLangAccess" "getUTF16Char" "([BI)C") ∈ lw_tbl := lw_at lw_m7 151 rfl
set_option maxRecDepth 100000
theorem q1631 : (Jvm.Cond.declares ({ cls := "jdk/internal/access/JavaLangAccess", name := "getUTF16Char", desc := "([BI)C" } : Jvm.MethodName)) ∈ lw_tbl := lw_at lw_m7 152 rfl
theorem q152 : (Jvm.Cond.arrayClass Jvm.ClassFile.FieldType.byte) ∈ lw_all := lw_g (lw_at lw_m1 113 rfl) rfl
set_option maxRecDepth 100000
theorem q451 : (Jvm.Cond.arrayClass Jvm.ClassFile.FieldType.double) ∈ lw_all := lw_g (lw_at lw_m2 172 rfl) rfl
theorem q452 : (Jvm.Cond.arrayClass Jvm.ClassFile.FieldType.boolean) ∈ lw_all := lw_g (lw_at lw_m2 173 rfl) rfl
theorem q453 : (Jvm.Cond.arrayClass Jvm.ClassFile.FieldType.int) ∈ lw_all := lw_g (lw_at lw_m2 174 rfl) rfl
theorem q1788 : (Jvm.Cond.arrayClass Jvm.ClassFile.FieldType.char) ∈ lw_all := lw_g (lw_at lw_m8 69 rfl) rfl
theorem q1789 : (Jvm.Cond.arrayClass Jvm.ClassFile.FieldType.short) ∈ lw_all := lw_g (lw_at lw_m8 70 rfl) rfl
theorem q1790 : (Jvm.Cond.arrayClass Jvm.ClassFile.FieldType.long) ∈ lw_all := lw_g (lw_at lw_m8 71 rfl) rfl
/-! java/lang/Throwable -/
set_option maxRecDepth 100000
def RJ0 : String := "java/lang/Throwable"
def TJ0 : u_T := fun k => match k with
  | 0 => ("java/lang/Throwable", "cause", "Ljava/lang/Throwable;", false)
  | 1 => ("java/lang/Throwable", "stackTrace", "[Ljava/lang/StackTraceElement;", false)
  | 2 => ("java/lang/Throwable", "suppressedExceptions", "Ljava/util/List;", false)
  | 3 => ("java/lang/Throwable", "detailMessage", "Ljava/lang/String;", false)
  | _ => ("java/lang/Throwable", "backtrace", "Ljava/lang/Object;", false)
def tyJ0 : Nat → FieldType := fun k => match k with
  | 0 => .object "java/lang/Throwable"
  | 1 => .array (.object "java/lang/StackTraceElement")
  | 2 => .object "java/util/List"
  | 3 => .object "java/lang/String"
  | _ => .object "java/lang/Object"
abbrev wsJ00 : List Cond := u_ws RJ0 TJ0 5
theorem nmJ0 : ∀ a, a < 5 → ∀ b, b < 5 → a ≠ b → (TJ0 a).2.1 ≠ (TJ0 b).2.1 := by decide +kernel
theorem tyJ0_ok : ∀ k, k < 5 → parseFieldDescriptor (TJ0 k).2.2.1 = some (tyJ0 k) := by decide +kernel
abbrev cJ0_init : ByteArray := prog_32_method_2_code
def yJ0_init : MethodName := ⟨RJ0, "<init>", "(Ljava/lang/String;)V"⟩
def dkwJ0_init_1 : List UInt8 := [182, 0, 27, 87, 42, 43, 181, 0, 31, 177]
abbrev dktJ0_init_1 : List UInt8 := dkwJ0_init_1 ++ []
def dkwJ0_init_0 : List UInt8 := [42, 183, 0, 1, 42, 42, 181, 0, 7, 42, 178, 0, 13, 181, 0, 17, 42, 178, 0, 20, 181, 0, 24, 42]
abbrev dktJ0_init_0 : List UInt8 := dkwJ0_init_0 ++ dktJ0_init_1
theorem dksJ0_init_0 : cJ0_init.data.toList.drop 0 = dktJ0_init_0 := by decide +kernel
theorem dksJ0_init_1 : cJ0_init.data.toList.drop 24 = dktJ0_init_1 := dk_seg dksJ0_init_0 24 rfl rfl
theorem dJ0_init_0 : decode cJ0_init 0 = .ok (.aload_n 0, 1) := dk_42 (dk_at dksJ0_init_0 0 rfl rfl)
theorem dJ0_init_1 : decode cJ0_init 1 = .ok (.invokespecial 1, 3) := dk_183 0 1 (dk_at dksJ0_init_0 1 rfl rfl)
theorem dJ0_init_4 : decode cJ0_init 4 = .ok (.aload_n 0, 1) := dk_42 (dk_at dksJ0_init_0 4 rfl rfl)
theorem dJ0_init_5 : decode cJ0_init 5 = .ok (.aload_n 0, 1) := dk_42 (dk_at dksJ0_init_0 5 rfl rfl)
theorem dJ0_init_6 : decode cJ0_init 6 = .ok (.putfield 7, 3) := dk_181 0 7 (dk_at dksJ0_init_0 6 rfl rfl)
theorem dJ0_init_9 : decode cJ0_init 9 = .ok (.aload_n 0, 1) := dk_42 (dk_at dksJ0_init_0 9 rfl rfl)
theorem dJ0_init_10 : decode cJ0_init 10 = .ok (.getstatic 13, 3) := dk_178 0 13 (dk_at dksJ0_init_0 10 rfl rfl)
theorem dJ0_init_13 : decode cJ0_init 13 = .ok (.putfield 17, 3) := dk_181 0 17 (dk_at dksJ0_init_0 13 rfl rfl)
theorem dJ0_init_16 : decode cJ0_init 16 = .ok (.aload_n 0, 1) := dk_42 (dk_at dksJ0_init_0 16 rfl rfl)
theorem dJ0_init_17 : decode cJ0_init 17 = .ok (.getstatic 20, 3) := dk_178 0 20 (dk_at dksJ0_init_0 17 rfl rfl)
theorem dJ0_init_20 : decode cJ0_init 20 = .ok (.putfield 24, 3) := dk_181 0 24 (dk_at dksJ0_init_0 20 rfl rfl)
theorem dJ0_init_23 : decode cJ0_init 23 = .ok (.aload_n 0, 1) := dk_42 (dk_at dksJ0_init_0 23 rfl rfl)
theorem dJ0_init_24 : decode cJ0_init 24 = .ok (.invokevirtual 27, 3) := dk_182 0 27 (dk_at dksJ0_init_1 0 rfl rfl)
theorem dJ0_init_27 : decode cJ0_init 27 = .ok (.pop, 1) := dk_87 (dk_at dksJ0_init_1 3 rfl rfl)
theorem dJ0_init_28 : decode cJ0_init 28 = .ok (.aload_n 0, 1) := dk_42 (dk_at dksJ0_init_1 4 rfl rfl)
theorem dJ0_init_29 : decode cJ0_init 29 = .ok (.aload_n 1, 1) := dk_43 (dk_at dksJ0_init_1 5 rfl rfl)
theorem dJ0_init_30 : decode cJ0_init 30 = .ok (.putfield 31, 3) := dk_181 0 31 (dk_at dksJ0_init_1 6 rfl rfl)
theorem dJ0_init_33 : decode cJ0_init 33 = .ok (.return_, 1) := dk_177 (dk_at dksJ0_init_1 9 rfl rfl)
abbrev cJ0_init_2 : ByteArray := prog_32_method_1_code
def yJ0_init_2 : MethodName := ⟨RJ0, "<init>", "()V"⟩
def dkwJ0_init_2_1 : List UInt8 := [182, 0, 27, 87, 177]
abbrev dktJ0_init_2_1 : List UInt8 := dkwJ0_init_2_1 ++ []
def dkwJ0_init_2_0 : List UInt8 := [42, 183, 0, 1, 42, 42, 181, 0, 7, 42, 178, 0, 13, 181, 0, 17, 42, 178, 0, 20, 181, 0, 24, 42]
abbrev dktJ0_init_2_0 : List UInt8 := dkwJ0_init_2_0 ++ dktJ0_init_2_1
theorem dksJ0_init_2_0 : cJ0_init_2.data.toList.drop 0 = dktJ0_init_2_0 := by decide +kernel
theorem dksJ0_init_2_1 : cJ0_init_2.data.toList.drop 24 = dktJ0_init_2_1 := dk_seg dksJ0_init_2_0 24 rfl rfl
theorem dJ0_init_2_0 : decode cJ0_init_2 0 = .ok (.aload_n 0, 1) := dk_42 (dk_at dksJ0_init_2_0 0 rfl rfl)
theorem dJ0_init_2_1 : decode cJ0_init_2 1 = .ok (.invokespecial 1, 3) := dk_183 0 1 (dk_at dksJ0_init_2_0 1 rfl rfl)
theorem dJ0_init_2_4 : decode cJ0_init_2 4 = .ok (.aload_n 0, 1) := dk_42 (dk_at dksJ0_init_2_0 4 rfl rfl)
theorem dJ0_init_2_5 : decode cJ0_init_2 5 = .ok (.aload_n 0, 1) := dk_42 (dk_at dksJ0_init_2_0 5 rfl rfl)
theorem dJ0_init_2_6 : decode cJ0_init_2 6 = .ok (.putfield 7, 3) := dk_181 0 7 (dk_at dksJ0_init_2_0 6 rfl rfl)
theorem dJ0_init_2_9 : decode cJ0_init_2 9 = .ok (.aload_n 0, 1) := dk_42 (dk_at dksJ0_init_2_0 9 rfl rfl)
theorem dJ0_init_2_10 : decode cJ0_init_2 10 = .ok (.getstatic 13, 3) := dk_178 0 13 (dk_at dksJ0_init_2_0 10 rfl rfl)
theorem dJ0_init_2_13 : decode cJ0_init_2 13 = .ok (.putfield 17, 3) := dk_181 0 17 (dk_at dksJ0_init_2_0 13 rfl rfl)
theorem dJ0_init_2_16 : decode cJ0_init_2 16 = .ok (.aload_n 0, 1) := dk_42 (dk_at dksJ0_init_2_0 16 rfl rfl)
theorem dJ0_init_2_17 : decode cJ0_init_2 17 = .ok (.getstatic 20, 3) := dk_178 0 20 (dk_at dksJ0_init_2_0 17 rfl rfl)
theorem dJ0_init_2_20 : decode cJ0_init_2 20 = .ok (.putfield 24, 3) := dk_181 0 24 (dk_at dksJ0_init_2_0 20 rfl rfl)
theorem dJ0_init_2_23 : decode cJ0_init_2 23 = .ok (.aload_n 0, 1) := dk_42 (dk_at dksJ0_init_2_0 23 rfl rfl)
theorem dJ0_init_2_24 : decode cJ0_init_2 24 = .ok (.invokevirtual 27, 3) := dk_182 0 27 (dk_at dksJ0_init_2_1 0 rfl rfl)
theorem dJ0_init_2_27 : decode cJ0_init_2 27 = .ok (.pop, 1) := dk_87 (dk_at dksJ0_init_2_1 3 rfl rfl)
theorem dJ0_init_2_28 : decode cJ0_init_2 28 = .ok (.return_, 1) := dk_177 (dk_at dksJ0_init_2_1 4 rfl rfl)
theorem q40 : (Jvm.Cond.initialized "java/lang/Throwable") ∈ lw_all := lw_g (lw_at lw_m1 1 rfl) rfl
theorem q92 : (Jvm.Cond.instanceMethod ({ cls := "java/lang/Throwable", name := "<init>", desc := "(Ljava/lang/String;)V" } : Jvm.MethodName)) ∈ lw_all := lw_g (lw_at lw_m1 53 rfl) rfl
theorem q93 : (Jvm.Cond.code ({ cls := "java/lang/Throwable", name := "<init>", desc := "(Ljava/lang/String;)V" } : Jvm.MethodName) prog_32_method_2_code (2 : Nat) (Option.none : Option Jvm.ClassFile.FieldType)) ∈ lw_all := lw_g (lw_at lw_m1 54 rfl) rfl
theorem q94 : (Jvm.Cond.methodLink "java/lang/Throwable" (1 : Nat) ({ cls := "java/lang/Object", name := "<init>", desc := "()V" } : Jvm.MethodName)) ∈ lw_all := lw_g (lw_at lw_m1 55 rfl) rfl
theorem q97 : (Jvm.Cond.fieldLink "java/lang/Throwable" (13 : Nat) "java/lang/Throwable" "UNASSIGNED_STACK" "[Ljava/lang/StackTraceElement;") ∈ lw_all := lw_g (lw_at lw_m1 58 rfl) rfl
theorem q98 : (Jvm.Cond.laysStatic "java/lang/Throwable" "UNASSIGNED_STACK" "[Ljava/lang/StackTraceElement;") ∈ lw_tbl := lw_at lw_m1 59 rfl
theorem q99 : (Jvm.Cond.fieldLink "java/lang/Throwable" (20 : Nat) "java/lang/Throwable" "SUPPRESSED_SENTINEL" "Ljava/util/List;") ∈ lw_all := lw_g (lw_at lw_m1 60 rfl) rfl
theorem q100 : (Jvm.Cond.laysStatic "java/lang/Throwable" "SUPPRESSED_SENTINEL" "Ljava/util/List;") ∈ lw_tbl := lw_at lw_m1 61 rfl
theorem q101 : (Jvm.Cond.methodLink "java/lang/Throwable" (27 : Nat) ({ cls := "java/lang/Throwable", name := "fillInStackTrace", desc := "()Ljava/lang/Throwable;" } : Jvm.MethodName)) ∈ lw_all := lw_g (lw_at lw_m1 62 rfl) rfl
theorem q102 : (Jvm.Cond.instanceMethod ({ cls := "java/lang/Throwable", name := "fillInStackTrace", desc := "()Ljava/lang/Throwable;" } : Jvm.MethodName)) ∈ lw_all := lw_g (lw_at lw_m1 63 rfl) rfl
theorem q103 : (Jvm.Cond.sameMethod "java/lang/Throwable" "java/lang/Throwable" "fillInStackTrace" "()Ljava/lang/Throwable;") ∈ lw_all := lw_g (lw_at lw_m1 64 rfl) rfl
theorem q108 : (Jvm.Cond.codeSync ({ cls := "java/lang/Throwable", name := "fillInStackTrace", desc := "()Ljava/lang/Throwable;" } : Jvm.MethodName) prog_32_method_18_code (1 : Nat) (Option.some (Jvm.ClassFile.FieldType.object "java/lang/Throwable"))) ∈ lw_all := lw_g (lw_at lw_m1 69 rfl) rfl
theorem q109 : (Jvm.Cond.methodLink "java/lang/Throwable" (202 : Nat) ({ cls := "java/lang/Throwable", name := "fillInStackTrace", desc := "(I)Ljava/lang/Throwable;" } : Jvm.MethodName)) ∈ lw_all := lw_g (lw_at lw_m1 70 rfl) rfl
theorem q110 : (Jvm.Cond.privateMethod ({ cls := "java/lang/Throwable", name := "fillInStackTrace", desc := "(I)Ljava/lang/Throwable;" } : Jvm.MethodName)) ∈ lw_tbl := lw_at lw_m1 71 rfl
theorem q111 : (Jvm.Cond.instanceMethod ({ cls := "java/lang/Throwable", name := "fillInStackTrace", desc := "(I)Ljava/lang/Throwable;" } : Jvm.MethodName)) ∈ lw_all := lw_g (lw_at lw_m1 72 rfl) rfl
theorem q112 : (Jvm.Cond.instantiable "java/lang/Throwable" (6 : Nat)) ∈ lw_all := lw_g (lw_at lw_m1 73 rfl) rfl
theorem q113 : (Jvm.Cond.native ({ cls := "java/lang/Throwable", name := "fillInStackTrace", desc := "(I)Ljava/lang/Throwable;" } : Jvm.MethodName)) ∈ lw_all := lw_g (lw_at lw_m1 74 rfl) rfl
theorem q114 : (Jvm.Cond.fieldLink "java/lang/Throwable" (198 : Nat) "java/lang/Throwable" "backtrace" "Ljava/lang/Object;") ∈ lw_all := lw_g (lw_at lw_m1 75 rfl) rfl
theorem q115 : (Jvm.Cond.fieldLink "java/lang/Throwable" (31 : Nat) "java/lang/Throwable" "detailMessage" "Ljava/lang/String;") ∈ lw_all := lw_g (lw_at lw_m1 76 rfl) rfl
theorem q116 : (Jvm.Cond.fieldLink "java/lang/Throwable" (7 : Nat) "java/lang/Throwable" "cause" "Ljava/lang/Throwable;") ∈ lw_all := lw_g (lw_at lw_m1 77 rfl) rfl
theorem q117 : (Jvm.Cond.fieldLink "java/lang/Throwable" (17 : Nat) "java/lang/Throwable" "stackTrace" "[Ljava/lang/StackTraceElement;") ∈ lw_all := lw_g (lw_at lw_m1 78 rfl) rfl
theorem q118 : (Jvm.Cond.fieldLink "java/lang/Throwable" (24 : Nat) "java/lang/Throwable" "suppressedExceptions" "Ljava/util/List;") ∈ lw_all := lw_g (lw_at lw_m1 79 rfl) rfl
theorem q120 : (Jvm.Cond.soleField "java/lang/Throwable" "backtrace") ∈ lw_all := lw_g (lw_at lw_m1 81 rfl) rfl
theorem q122 : (Jvm.Cond.soleField "java/lang/Throwable" "detailMessage") ∈ lw_all := lw_g (lw_at lw_m1 83 rfl) rfl
theorem q124 : (Jvm.Cond.soleField "java/lang/Throwable" "cause") ∈ lw_all := lw_g (lw_at lw_m1 85 rfl) rfl
theorem q126 : (Jvm.Cond.soleField "java/lang/Throwable" "stackTrace") ∈ lw_all := lw_g (lw_at lw_m1 87 rfl) rfl
theorem q128 : (Jvm.Cond.soleField "java/lang/Throwable" "depth") ∈ lw_all := lw_g (lw_at lw_m1 89 rfl) rfl
theorem q130 : (Jvm.Cond.soleField "java/lang/Throwable" "suppressedExceptions") ∈ lw_all := lw_g (lw_at lw_m1 91 rfl) rfl
theorem q139 : (Jvm.Cond.declares ({ cls := "java/lang/Throwable", name := "<init>", desc := "()V" } : Jvm.MethodName)) ∈ lw_tbl := lw_at lw_m1 100 rfl
theorem q140 : (Jvm.Cond.declares ({ cls := "java/lang/Throwable", name := "<init>", desc := "(Ljava/lang/String;)V" } : Jvm.MethodName)) ∈ lw_tbl := lw_at lw_m1 101 rfl
theorem q142 : (Jvm.Cond.lays "java/lang/Throwable" "java/lang/Throwable" "cause" "Ljava/lang/Throwable;") ∈ lw_all := lw_g (lw_at lw_m1 103 rfl) rfl
theorem q143 : (Jvm.Cond.lays "java/lang/Throwable" "java/lang/Throwable" "stackTrace" "[Ljava/lang/StackTraceElement;") ∈ lw_all := lw_g (lw_at lw_m1 104 rfl) rfl
theorem q144 : (Jvm.Cond.lays "java/lang/Throwable" "java/lang/Throwable" "suppressedExceptions" "Ljava/util/List;") ∈ lw_all := lw_g (lw_at lw_m1 105 rfl) rfl
theorem q145 : (Jvm.Cond.lays "java/lang/Throwable" "java/lang/Throwable" "detailMessage" "Ljava/lang/String;") ∈ lw_all := lw_g (lw_at lw_m1 106 rfl) rfl
theorem q146 : (Jvm.Cond.lays "java/lang/Throwable" "java/lang/Throwable" "backtrace" "Ljava/lang/Object;") ∈ lw_all := lw_g (lw_at lw_m1 107 rfl) rfl
theorem q147 : (Jvm.Cond.fieldLink "java/lang/Throwable" (198 : Nat) "java/lang/Throwable" "backtrace" "Ljava/lang/Object;") ∈ lw_all := lw_g (lw_at lw_m1 108 rfl) rfl
theorem q148 : (Jvm.Cond.superclass "java/lang/Throwable" "java/lang/Object") ∈ lw_all := lw_g (lw_at lw_m1 109 rfl) rfl
theorem q149 : (Jvm.Cond.instanceMethod ({ cls := "java/lang/Throwable", name := "<init>", desc := "()V" } : Jvm.MethodName)) ∈ lw_all := lw_g (lw_at lw_m1 110 rfl) rfl
theorem q150 : (Jvm.Cond.code ({ cls := "java/lang/Throwable", name := "<init>", desc := "()V" } : Jvm.MethodName) prog_32_method_1_code (1 : Nat) (Option.none : Option Jvm.ClassFile.FieldType)) ∈ lw_all := lw_g (lw_at lw_m1 111 rfl) rfl
theorem q1773 : (Jvm.Cond.sameMethod "java/lang/Throwable" "java/lang/Throwable" "fillInStackTrace" "(I)Ljava/lang/Throwable;") ∈ lw_all := lw_g (lw_at lw_m8 54 rfl) rfl
theorem in_J0 : ∀ w ∈ wsJ00, w ∈ lw_all := lw_in wsJ00 [142, 143, 144, 145, 146] (by decide +kernel) (by decide +kernel)
/-! java/lang/Exception -/
set_option maxRecDepth 100000
def RJ1 : String := "java/lang/Exception"
abbrev cJ1_init : ByteArray := prog_10_method_2_code
def yJ1_init : MethodName := ⟨RJ1, "<init>", "(Ljava/lang/String;)V"⟩
def dkwJ1_init_0 : List UInt8 := [42, 43, 183, 0, 7, 177]
abbrev dktJ1_init_0 : List UInt8 := dkwJ1_init_0 ++ []
theorem dksJ1_init_0 : cJ1_init.data.toList.drop 0 = dktJ1_init_0 := by decide +kernel
theorem dJ1_init_0 : decode cJ1_init 0 = .ok (.aload_n 0, 1) := dk_42 (dk_at dksJ1_init_0 0 rfl rfl)
theorem dJ1_init_1 : decode cJ1_init 1 = .ok (.aload_n 1, 1) := dk_43 (dk_at dksJ1_init_0 1 rfl rfl)
theorem dJ1_init_2 : decode cJ1_init 2 = .ok (.invokespecial 7, 3) := dk_183 0 7 (dk_at dksJ1_init_0 2 rfl rfl)
theorem dJ1_init_5 : decode cJ1_init 5 = .ok (.return_, 1) := dk_177 (dk_at dksJ1_init_0 5 rfl rfl)
abbrev cJ1_init_2 : ByteArray := prog_10_method_1_code
def yJ1_init_2 : MethodName := ⟨RJ1, "<init>", "()V"⟩
theorem dJ1_init_2_0 : decode cJ1_init_2 0 = .ok (.aload_n 0, 1) := by decide +kernel
theorem dJ1_init_2_1 : decode cJ1_init_2 1 = .ok (.invokespecial 1, 3) := by decide +kernel
theorem dJ1_init_2_4 : decode cJ1_init_2 4 = .ok (.return_, 1) := by decide +kernel
theorem q41 : (Jvm.Cond.initialized "java/lang/Exception") ∈ lw_all := lw_g (lw_at lw_m1 2 rfl) rfl
theorem q89 : (Jvm.Cond.instanceMethod ({ cls := "java/lang/Exception", name := "<init>", desc := "(Ljava/lang/String;)V" } : Jvm.MethodName)) ∈ lw_all := lw_g (lw_at lw_m1 50 rfl) rfl
theorem q90 : (Jvm.Cond.code ({ cls := "java/lang/Exception", name := "<init>", desc := "(Ljava/lang/String;)V" } : Jvm.MethodName) prog_10_method_2_code (2 : Nat) (Option.none : Option Jvm.ClassFile.FieldType)) ∈ lw_all := lw_g (lw_at lw_m1 51 rfl) rfl
theorem q91 : (Jvm.Cond.methodLink "java/lang/Exception" (7 : Nat) ({ cls := "java/lang/Throwable", name := "<init>", desc := "(Ljava/lang/String;)V" } : Jvm.MethodName)) ∈ lw_all := lw_g (lw_at lw_m1 52 rfl) rfl
theorem q137 : (Jvm.Cond.declares ({ cls := "java/lang/Exception", name := "<init>", desc := "()V" } : Jvm.MethodName)) ∈ lw_tbl := lw_at lw_m1 98 rfl
theorem q138 : (Jvm.Cond.declares ({ cls := "java/lang/Exception", name := "<init>", desc := "(Ljava/lang/String;)V" } : Jvm.MethodName)) ∈ lw_tbl := lw_at lw_m1 99 rfl
theorem q975 : (Jvm.Cond.instanceMethod ({ cls := "java/lang/Exception", name := "<init>", desc := "()V" } : Jvm.MethodName)) ∈ lw_all := lw_g (lw_at lw_m4 216 rfl) rfl
theorem q976 : (Jvm.Cond.code ({ cls := "java/lang/Exception", name := "<init>", desc := "()V" } : Jvm.MethodName) prog_10_method_1_code (1 : Nat) (Option.none : Option Jvm.ClassFile.FieldType)) ∈ lw_all := lw_g (lw_at lw_m4 217 rfl) rfl
theorem q977 : (Jvm.Cond.methodLink "java/lang/Exception" (1 : Nat) ({ cls := "java/lang/Throwable", name := "<init>", desc := "()V" } : Jvm.MethodName)) ∈ lw_all := lw_g (lw_at lw_m4 218 rfl) rfl
/-! java/lang/RuntimeException -/
set_option maxRecDepth 100000
def RJ2 : String := "java/lang/RuntimeException"
abbrev cJ2_init : ByteArray := prog_24_method_2_code
def yJ2_init : MethodName := ⟨RJ2, "<init>", "(Ljava/lang/String;)V"⟩
def dkwJ2_init_0 : List UInt8 := [42, 43, 183, 0, 7, 177]
abbrev dktJ2_init_0 : List UInt8 := dkwJ2_init_0 ++ []
theorem dksJ2_init_0 : cJ2_init.data.toList.drop 0 = dktJ2_init_0 := by decide +kernel
theorem dJ2_init_0 : decode cJ2_init 0 = .ok (.aload_n 0, 1) := dk_42 (dk_at dksJ2_init_0 0 rfl rfl)
theorem dJ2_init_1 : decode cJ2_init 1 = .ok (.aload_n 1, 1) := dk_43 (dk_at dksJ2_init_0 1 rfl rfl)
theorem dJ2_init_2 : decode cJ2_init 2 = .ok (.invokespecial 7, 3) := dk_183 0 7 (dk_at dksJ2_init_0 2 rfl rfl)
theorem dJ2_init_5 : decode cJ2_init 5 = .ok (.return_, 1) := dk_177 (dk_at dksJ2_init_0 5 rfl rfl)
abbrev cJ2_init_2 : ByteArray := prog_24_method_1_code
def yJ2_init_2 : MethodName := ⟨RJ2, "<init>", "()V"⟩
theorem dJ2_init_2_0 : decode cJ2_init_2 0 = .ok (.aload_n 0, 1) := by decide +kernel
theorem dJ2_init_2_1 : decode cJ2_init_2 1 = .ok (.invokespecial 1, 3) := by decide +kernel
theorem dJ2_init_2_4 : decode cJ2_init_2 4 = .ok (.return_, 1) := by decide +kernel
theorem q42 : (Jvm.Cond.initialized "java/lang/RuntimeException") ∈ lw_all := lw_g (lw_at lw_m1 3 rfl) rfl
theorem q86 : (Jvm.Cond.instanceMethod ({ cls := "java/lang/RuntimeException", name := "<init>", desc := "(Ljava/lang/String;)V" } : Jvm.MethodName)) ∈ lw_all := lw_g (lw_at lw_m1 47 rfl) rfl
theorem q87 : (Jvm.Cond.code ({ cls := "java/lang/RuntimeException", name := "<init>", desc := "(Ljava/lang/String;)V" } : Jvm.MethodName) prog_24_method_2_code (2 : Nat) (Option.none : Option Jvm.ClassFile.FieldType)) ∈ lw_all := lw_g (lw_at lw_m1 48 rfl) rfl
theorem q88 : (Jvm.Cond.methodLink "java/lang/RuntimeException" (7 : Nat) ({ cls := "java/lang/Exception", name := "<init>", desc := "(Ljava/lang/String;)V" } : Jvm.MethodName)) ∈ lw_all := lw_g (lw_at lw_m1 49 rfl) rfl
theorem q135 : (Jvm.Cond.declares ({ cls := "java/lang/RuntimeException", name := "<init>", desc := "()V" } : Jvm.MethodName)) ∈ lw_tbl := lw_at lw_m1 96 rfl
theorem q136 : (Jvm.Cond.declares ({ cls := "java/lang/RuntimeException", name := "<init>", desc := "(Ljava/lang/String;)V" } : Jvm.MethodName)) ∈ lw_tbl := lw_at lw_m1 97 rfl
theorem q972 : (Jvm.Cond.instanceMethod ({ cls := "java/lang/RuntimeException", name := "<init>", desc := "()V" } : Jvm.MethodName)) ∈ lw_all := lw_g (lw_at lw_m4 213 rfl) rfl
theorem q973 : (Jvm.Cond.code ({ cls := "java/lang/RuntimeException", name := "<init>", desc := "()V" } : Jvm.MethodName) prog_24_method_1_code (1 : Nat) (Option.none : Option Jvm.ClassFile.FieldType)) ∈ lw_all := lw_g (lw_at lw_m4 214 rfl) rfl
theorem q974 : (Jvm.Cond.methodLink "java/lang/RuntimeException" (1 : Nat) ({ cls := "java/lang/Exception", name := "<init>", desc := "()V" } : Jvm.MethodName)) ∈ lw_all := lw_g (lw_at lw_m4 215 rfl) rfl
/-! java/lang/IndexOutOfBoundsException -/
set_option maxRecDepth 100000
def RJ3 : String := "java/lang/IndexOutOfBoundsException"
def TJ3 : u_T := fun k => match k with
  | 0 => ("java/lang/Throwable", "cause", "Ljava/lang/Throwable;", false)
  | 1 => ("java/lang/Throwable", "stackTrace", "[Ljava/lang/StackTraceElement;", false)
  | 2 => ("java/lang/Throwable", "suppressedExceptions", "Ljava/util/List;", false)
  | 3 => ("java/lang/Throwable", "detailMessage", "Ljava/lang/String;", false)
  | 4 => ("java/lang/Throwable", "backtrace", "Ljava/lang/Object;", false)
  | _ => ("java/lang/Throwable", "depth", "I", false)
def tyJ3 : Nat → FieldType := fun k => match k with
  | 0 => .object "java/lang/Throwable"
  | 1 => .array (.object "java/lang/StackTraceElement")
  | 2 => .object "java/util/List"
  | 3 => .object "java/lang/String"
  | 4 => .object "java/lang/Object"
  | _ => .int
abbrev wsJ30 : List Cond := u_ws RJ3 TJ3 6
theorem nmJ3 : ∀ a, a < 6 → ∀ b, b < 6 → a ≠ b → (TJ3 a).2.1 ≠ (TJ3 b).2.1 := by decide +kernel
theorem tyJ3_ok : ∀ k, k < 6 → parseFieldDescriptor (TJ3 k).2.2.1 = some (tyJ3 k) := by decide +kernel
abbrev cJ3_init : ByteArray := prog_18_method_2_code
def yJ3_init : MethodName := ⟨RJ3, "<init>", "(Ljava/lang/String;)V"⟩
def dkwJ3_init_0 : List UInt8 := [42, 43, 183, 0, 7, 177]
abbrev dktJ3_init_0 : List UInt8 := dkwJ3_init_0 ++ []
theorem dksJ3_init_0 : cJ3_init.data.toList.drop 0 = dktJ3_init_0 := by decide +kernel
theorem dJ3_init_0 : decode cJ3_init 0 = .ok (.aload_n 0, 1) := dk_42 (dk_at dksJ3_init_0 0 rfl rfl)
theorem dJ3_init_1 : decode cJ3_init 1 = .ok (.aload_n 1, 1) := dk_43 (dk_at dksJ3_init_0 1 rfl rfl)
theorem dJ3_init_2 : decode cJ3_init 2 = .ok (.invokespecial 7, 3) := dk_183 0 7 (dk_at dksJ3_init_0 2 rfl rfl)
theorem dJ3_init_5 : decode cJ3_init 5 = .ok (.return_, 1) := dk_177 (dk_at dksJ3_init_0 5 rfl rfl)
abbrev cJ3_init_2 : ByteArray := prog_18_method_1_code
def yJ3_init_2 : MethodName := ⟨RJ3, "<init>", "()V"⟩
theorem dJ3_init_2_0 : decode cJ3_init_2 0 = .ok (.aload_n 0, 1) := by decide +kernel
theorem dJ3_init_2_1 : decode cJ3_init_2 1 = .ok (.invokespecial 1, 3) := by decide +kernel
theorem dJ3_init_2_4 : decode cJ3_init_2 4 = .ok (.return_, 1) := by decide +kernel
theorem q43 : (Jvm.Cond.initialized "java/lang/IndexOutOfBoundsException") ∈ lw_all := lw_g (lw_at lw_m1 4 rfl) rfl
theorem q83 : (Jvm.Cond.instanceMethod ({ cls := "java/lang/IndexOutOfBoundsException", name := "<init>", desc := "(Ljava/lang/String;)V" } : Jvm.MethodName)) ∈ lw_all := lw_g (lw_at lw_m1 44 rfl) rfl
theorem q84 : (Jvm.Cond.code ({ cls := "java/lang/IndexOutOfBoundsException", name := "<init>", desc := "(Ljava/lang/String;)V" } : Jvm.MethodName) prog_18_method_2_code (2 : Nat) (Option.none : Option Jvm.ClassFile.FieldType)) ∈ lw_all := lw_g (lw_at lw_m1 45 rfl) rfl
theorem q85 : (Jvm.Cond.methodLink "java/lang/IndexOutOfBoundsException" (7 : Nat) ({ cls := "java/lang/RuntimeException", name := "<init>", desc := "(Ljava/lang/String;)V" } : Jvm.MethodName)) ∈ lw_all := lw_g (lw_at lw_m1 46 rfl) rfl
theorem q106 : (Jvm.Cond.selects "java/lang/IndexOutOfBoundsException" ({ cls := "java/lang/Throwable", name := "fillInStackTrace", desc := "()Ljava/lang/Throwable;" } : Jvm.MethodName) ({ cls := "java/lang/Throwable", name := "fillInStackTrace", desc := "()Ljava/lang/Throwable;" } : Jvm.MethodName)) ∈ lw_all := lw_g (lw_at lw_m1 67 rfl) rfl
theorem q133 : (Jvm.Cond.declares ({ cls := "java/lang/IndexOutOfBoundsException", name := "<init>", desc := "()V" } : Jvm.MethodName)) ∈ lw_tbl := lw_at lw_m1 94 rfl
theorem q134 : (Jvm.Cond.declares ({ cls := "java/lang/IndexOutOfBoundsException", name := "<init>", desc := "(Ljava/lang/String;)V" } : Jvm.MethodName)) ∈ lw_tbl := lw_at lw_m1 95 rfl
theorem q960 : (Jvm.Cond.instantiable "java/lang/IndexOutOfBoundsException" (6 : Nat)) ∈ lw_all := lw_g (lw_at lw_m4 201 rfl) rfl
theorem q961 : (Jvm.Cond.castable "java/lang/IndexOutOfBoundsException" "java/lang/IndexOutOfBoundsException") ∈ lw_tbl := lw_at lw_m4 202 rfl
theorem q962 : (Jvm.Cond.selects "java/lang/IndexOutOfBoundsException" ({ cls := "java/lang/Throwable", name := "fillInStackTrace", desc := "(I)Ljava/lang/Throwable;" } : Jvm.MethodName) ({ cls := "java/lang/Throwable", name := "fillInStackTrace", desc := "(I)Ljava/lang/Throwable;" } : Jvm.MethodName)) ∈ lw_all := lw_g (lw_at lw_m4 203 rfl) rfl
theorem q963 : (Jvm.Cond.lays "java/lang/IndexOutOfBoundsException" "java/lang/Throwable" "cause" "Ljava/lang/Throwable;") ∈ lw_all := lw_g (lw_at lw_m4 204 rfl) rfl
theorem q964 : (Jvm.Cond.lays "java/lang/IndexOutOfBoundsException" "java/lang/Throwable" "stackTrace" "[Ljava/lang/StackTraceElement;") ∈ lw_all := lw_g (lw_at lw_m4 205 rfl) rfl
theorem q965 : (Jvm.Cond.lays "java/lang/IndexOutOfBoundsException" "java/lang/Throwable" "suppressedExceptions" "Ljava/util/List;") ∈ lw_all := lw_g (lw_at lw_m4 206 rfl) rfl
theorem q966 : (Jvm.Cond.lays "java/lang/IndexOutOfBoundsException" "java/lang/Throwable" "detailMessage" "Ljava/lang/String;") ∈ lw_all := lw_g (lw_at lw_m4 207 rfl) rfl
theorem q967 : (Jvm.Cond.lays "java/lang/IndexOutOfBoundsException" "java/lang/Throwable" "backtrace" "Ljava/lang/Object;") ∈ lw_all := lw_g (lw_at lw_m4 208 rfl) rfl
theorem q969 : (Jvm.Cond.instanceMethod ({ cls := "java/lang/IndexOutOfBoundsException", name := "<init>", desc := "()V" } : Jvm.MethodName)) ∈ lw_all := lw_g (lw_at lw_m4 210 rfl) rfl
theorem q970 : (Jvm.Cond.code ({ cls := "java/lang/IndexOutOfBoundsException", name := "<init>", desc := "()V" } : Jvm.MethodName) prog_18_method_1_code (1 : Nat) (Option.none : Option Jvm.ClassFile.FieldType)) ∈ lw_all := lw_g (lw_at lw_m4 211 rfl) rfl
theorem q971 : (Jvm.Cond.methodLink "java/lang/IndexOutOfBoundsException" (1 : Nat) ({ cls := "java/lang/RuntimeException", name := "<init>", desc := "()V" } : Jvm.MethodName)) ∈ lw_all := lw_g (lw_at lw_m4 212 rfl) rfl
theorem q978 : (Jvm.Cond.lays "java/lang/IndexOutOfBoundsException" "java/lang/Throwable" "depth" "I") ∈ lw_all := lw_g (lw_at lw_m4 219 rfl) rfl
theorem q979 : (Jvm.Cond.superclass "java/lang/IndexOutOfBoundsException" "java/lang/RuntimeException") ∈ lw_all := lw_g (lw_at lw_m4 220 rfl) rfl
theorem q1439 : (Jvm.Cond.selects "java/lang/IndexOutOfBoundsException" ({ cls := "java/lang/Object", name := "equals", desc := "(Ljava/lang/Object;)Z" } : Jvm.MethodName) ({ cls := "java/lang/Object", name := "equals", desc := "(Ljava/lang/Object;)Z" } : Jvm.MethodName)) ∈ lw_all := lw_g (lw_at lw_m6 200 rfl) rfl
theorem in_J3 : ∀ w ∈ wsJ30, w ∈ lw_all := lw_in wsJ30 [963, 964, 965, 966, 967, 978] (by decide +kernel) (by decide +kernel)
/-! java/lang/ArrayIndexOutOfBoundsException -/
set_option maxRecDepth 100000
def RJ4 : String := "java/lang/ArrayIndexOutOfBoundsException"
def TJ4 : u_T := fun k => match k with
  | 0 => ("java/lang/Throwable", "backtrace", "Ljava/lang/Object;", false)
  | 1 => ("java/lang/Throwable", "detailMessage", "Ljava/lang/String;", false)
  | 2 => ("java/lang/Throwable", "cause", "Ljava/lang/Throwable;", false)
  | 3 => ("java/lang/Throwable", "stackTrace", "[Ljava/lang/StackTraceElement;", false)
  | 4 => ("java/lang/Throwable", "depth", "I", false)
  | _ => ("java/lang/Throwable", "suppressedExceptions", "Ljava/util/List;", false)
def tyJ4 : Nat → FieldType := fun k => match k with
  | 0 => .object "java/lang/Object"
  | 1 => .object "java/lang/String"
  | 2 => .object "java/lang/Throwable"
  | 3 => .array (.object "java/lang/StackTraceElement")
  | 4 => .int
  | _ => .object "java/util/List"
abbrev wsJ40 : List Cond := u_ws RJ4 TJ4 6
theorem nmJ4 : ∀ a, a < 6 → ∀ b, b < 6 → a ≠ b → (TJ4 a).2.1 ≠ (TJ4 b).2.1 := by decide +kernel
theorem tyJ4_ok : ∀ k, k < 6 → parseFieldDescriptor (TJ4 k).2.2.1 = some (tyJ4 k) := by decide +kernel
abbrev cJ4_init : ByteArray := prog_4_method_2_code
def yJ4_init : MethodName := ⟨RJ4, "<init>", "(Ljava/lang/String;)V"⟩
def dkwJ4_init_0 : List UInt8 := [42, 43, 183, 0, 7, 177]
abbrev dktJ4_init_0 : List UInt8 := dkwJ4_init_0 ++ []
theorem dksJ4_init_0 : cJ4_init.data.toList.drop 0 = dktJ4_init_0 := by decide +kernel
theorem dJ4_init_0 : decode cJ4_init 0 = .ok (.aload_n 0, 1) := dk_42 (dk_at dksJ4_init_0 0 rfl rfl)
theorem dJ4_init_1 : decode cJ4_init 1 = .ok (.aload_n 1, 1) := dk_43 (dk_at dksJ4_init_0 1 rfl rfl)
theorem dJ4_init_2 : decode cJ4_init 2 = .ok (.invokespecial 7, 3) := dk_183 0 7 (dk_at dksJ4_init_0 2 rfl rfl)
theorem dJ4_init_5 : decode cJ4_init 5 = .ok (.return_, 1) := dk_177 (dk_at dksJ4_init_0 5 rfl rfl)
abbrev cJ4_init_2 : ByteArray := prog_4_method_3_code
def yJ4_init_2 : MethodName := ⟨RJ4, "<init>", "(I)V"⟩
def dkwJ4_init_2_0 : List UInt8 := [42, 187, 0, 10, 89, 183, 0, 12, 18, 13, 182, 0, 15, 27, 182, 0, 19, 182, 0, 22, 183, 0, 7, 177]
abbrev dktJ4_init_2_0 : List UInt8 := dkwJ4_init_2_0 ++ []
theorem dksJ4_init_2_0 : cJ4_init_2.data.toList.drop 0 = dktJ4_init_2_0 := by decide +kernel
theorem dJ4_init_2_0 : decode cJ4_init_2 0 = .ok (.aload_n 0, 1) := dk_42 (dk_at dksJ4_init_2_0 0 rfl rfl)
theorem dJ4_init_2_1 : decode cJ4_init_2 1 = .ok (.new 10, 3) := dk_187 0 10 (dk_at dksJ4_init_2_0 1 rfl rfl)
theorem dJ4_init_2_4 : decode cJ4_init_2 4 = .ok (.dup, 1) := dk_89 (dk_at dksJ4_init_2_0 4 rfl rfl)
theorem dJ4_init_2_5 : decode cJ4_init_2 5 = .ok (.invokespecial 12, 3) := dk_183 0 12 (dk_at dksJ4_init_2_0 5 rfl rfl)
theorem dJ4_init_2_8 : decode cJ4_init_2 8 = .ok (.ldc 13, 2) := dk_18 13 (dk_at dksJ4_init_2_0 8 rfl rfl)
theorem dJ4_init_2_10 : decode cJ4_init_2 10 = .ok (.invokevirtual 15, 3) := dk_182 0 15 (dk_at dksJ4_init_2_0 10 rfl rfl)
theorem dJ4_init_2_13 : decode cJ4_init_2 13 = .ok (.iload_n 1, 1) := dk_27 (dk_at dksJ4_init_2_0 13 rfl rfl)
theorem dJ4_init_2_14 : decode cJ4_init_2 14 = .ok (.invokevirtual 19, 3) := dk_182 0 19 (dk_at dksJ4_init_2_0 14 rfl rfl)
theorem dJ4_init_2_17 : decode cJ4_init_2 17 = .ok (.invokevirtual 22, 3) := dk_182 0 22 (dk_at dksJ4_init_2_0 17 rfl rfl)
theorem dJ4_init_2_20 : decode cJ4_init_2 20 = .ok (.invokespecial 7, 3) := dk_183 0 7 (dk_at dksJ4_init_2_0 20 rfl rfl)
theorem dJ4_init_2_23 : decode cJ4_init_2 23 = .ok (.return_, 1) := dk_177 (dk_at dksJ4_init_2_0 23 rfl rfl)
theorem q44 : (Jvm.Cond.initialized "java/lang/ArrayIndexOutOfBoundsException") ∈ lw_all := lw_g (lw_at lw_m1 5 rfl) rfl
theorem q79 : (Jvm.Cond.instantiable "java/lang/ArrayIndexOutOfBoundsException" (6 : Nat)) ∈ lw_all := lw_g (lw_at lw_m1 40 rfl) rfl
theorem q80 : (Jvm.Cond.instanceMethod ({ cls := "java/lang/ArrayIndexOutOfBoundsException", name := "<init>", desc := "(Ljava/lang/String;)V" } : Jvm.MethodName)) ∈ lw_all := lw_g (lw_at lw_m1 41 rfl) rfl
theorem q81 : (Jvm.Cond.code ({ cls := "java/lang/ArrayIndexOutOfBoundsException", name := "<init>", desc := "(Ljava/lang/String;)V" } : Jvm.MethodName) prog_4_method_2_code (2 : Nat) (Option.none : Option Jvm.ClassFile.FieldType)) ∈ lw_all := lw_g (lw_at lw_m1 42 rfl) rfl
theorem q82 : (Jvm.Cond.methodLink "java/lang/ArrayIndexOutOfBoundsException" (7 : Nat) ({ cls := "java/lang/IndexOutOfBoundsException", name := "<init>", desc := "(Ljava/lang/String;)V" } : Jvm.MethodName)) ∈ lw_all := lw_g (lw_at lw_m1 43 rfl) rfl
theorem q104 : (Jvm.Cond.selects "java/lang/ArrayIndexOutOfBoundsException" ({ cls := "java/lang/Throwable", name := "fillInStackTrace", desc := "()Ljava/lang/Throwable;" } : Jvm.MethodName) ({ cls := "java/lang/Throwable", name := "fillInStackTrace", desc := "()Ljava/lang/Throwable;" } : Jvm.MethodName)) ∈ lw_all := lw_g (lw_at lw_m1 65 rfl) rfl
theorem q119 : (Jvm.Cond.lays "java/lang/ArrayIndexOutOfBoundsException" "java/lang/Throwable" "backtrace" "Ljava/lang/Object;") ∈ lw_all := lw_g (lw_at lw_m1 80 rfl) rfl
theorem q121 : (Jvm.Cond.lays "java/lang/ArrayIndexOutOfBoundsException" "java/lang/Throwable" "detailMessage" "Ljava/lang/String;") ∈ lw_all := lw_g (lw_at lw_m1 82 rfl) rfl
theorem q123 : (Jvm.Cond.lays "java/lang/ArrayIndexOutOfBoundsException" "java/lang/Throwable" "cause" "Ljava/lang/Throwable;") ∈ lw_all := lw_g (lw_at lw_m1 84 rfl) rfl
theorem q125 : (Jvm.Cond.lays "java/lang/ArrayIndexOutOfBoundsException" "java/lang/Throwable" "stackTrace" "[Ljava/lang/StackTraceElement;") ∈ lw_all := lw_g (lw_at lw_m1 86 rfl) rfl
theorem q127 : (Jvm.Cond.lays "java/lang/ArrayIndexOutOfBoundsException" "java/lang/Throwable" "depth" "I") ∈ lw_all := lw_g (lw_at lw_m1 88 rfl) rfl
theorem q129 : (Jvm.Cond.lays "java/lang/ArrayIndexOutOfBoundsException" "java/lang/Throwable" "suppressedExceptions" "Ljava/util/List;") ∈ lw_all := lw_g (lw_at lw_m1 90 rfl) rfl
theorem q131 : (Jvm.Cond.superclass "java/lang/ArrayIndexOutOfBoundsException" "java/lang/IndexOutOfBoundsException") ∈ lw_all := lw_g (lw_at lw_m1 92 rfl) rfl
theorem q132 : (Jvm.Cond.castable "java/lang/ArrayIndexOutOfBoundsException" "java/lang/ArrayIndexOutOfBoundsException") ∈ lw_tbl := lw_at lw_m1 93 rfl
theorem q141 : (Jvm.Cond.selects "java/lang/ArrayIndexOutOfBoundsException" ({ cls := "java/lang/Throwable", name := "fillInStackTrace", desc := "(I)Ljava/lang/Throwable;" } : Jvm.MethodName) ({ cls := "java/lang/Throwable", name := "fillInStackTrace", desc := "(I)Ljava/lang/Throwable;" } : Jvm.MethodName)) ∈ lw_all := lw_g (lw_at lw_m1 102 rfl) rfl
theorem q871 : (Jvm.Cond.instanceMethod ({ cls := "java/lang/ArrayIndexOutOfBoundsException", name := "<init>", desc := "(I)V" } : Jvm.MethodName)) ∈ lw_all := lw_g (lw_at lw_m4 112 rfl) rfl
theorem q872 : (Jvm.Cond.code ({ cls := "java/lang/ArrayIndexOutOfBoundsException", name := "<init>", desc := "(I)V" } : Jvm.MethodName) prog_4_method_3_code (2 : Nat) (Option.none : Option Jvm.ClassFile.FieldType)) ∈ lw_all := lw_g (lw_at lw_m4 113 rfl) rfl
theorem q873 : (Jvm.Cond.classLink "java/lang/ArrayIndexOutOfBoundsException" (10 : Nat) "java/lang/StringBuilder") ∈ lw_all := lw_g (lw_at lw_m4 114 rfl) rfl
theorem q874 : (Jvm.Cond.methodLink "java/lang/ArrayIndexOutOfBoundsException" (12 : Nat) ({ cls := "java/lang/StringBuilder", name := "<init>", desc := "()V" } : Jvm.MethodName)) ∈ lw_all := lw_g (lw_at lw_m4 115 rfl) rfl
theorem q875 : (Jvm.Cond.stringRef "java/lang/ArrayIndexOutOfBoundsException" (13 : Nat) "Array index out of range: ") ∈ lw_tbl := lw_at lw_m4 116 rfl
theorem q876 : (Jvm.Cond.methodLink "java/lang/ArrayIndexOutOfBoundsException" (15 : Nat) ({ cls := "java/lang/StringBuilder", name := "append", desc := "(Ljava/lang/String;)Ljava/lang/StringBuilder;" } : Jvm.MethodName)) ∈ lw_all := lw_g (lw_at lw_m4 117 rfl) rfl
theorem q877 : (Jvm.Cond.methodLink "java/lang/ArrayIndexOutOfBoundsException" (19 : Nat) ({ cls := "java/lang/StringBuilder", name := "append", desc := "(I)Ljava/lang/StringBuilder;" } : Jvm.MethodName)) ∈ lw_all := lw_g (lw_at lw_m4 118 rfl) rfl
theorem q878 : (Jvm.Cond.methodLink "java/lang/ArrayIndexOutOfBoundsException" (22 : Nat) ({ cls := "java/lang/StringBuilder", name := "toString", desc := "()Ljava/lang/String;" } : Jvm.MethodName)) ∈ lw_all := lw_g (lw_at lw_m4 119 rfl) rfl
theorem q1435 : (Jvm.Cond.selects "java/lang/ArrayIndexOutOfBoundsException" ({ cls := "java/lang/Object", name := "equals", desc := "(Ljava/lang/Object;)Z" } : Jvm.MethodName) ({ cls := "java/lang/Object", name := "equals", desc := "(Ljava/lang/Object;)Z" } : Jvm.MethodName)) ∈ lw_all := lw_g (lw_at lw_m6 196 rfl) rfl
theorem q1786 : (Jvm.Cond.castable "java/lang/ArrayIndexOutOfBoundsException" "java/lang/IndexOutOfBoundsException") ∈ lw_tbl := lw_at lw_m8 67 rfl
theorem in_J4 : ∀ w ∈ wsJ40, w ∈ lw_all := lw_in wsJ40 [119, 121, 123, 125, 127, 129] (by decide +kernel) (by decide +kernel)
/-! java/lang/String -/
set_option maxRecDepth 100000
def RJ5 : String := "java/lang/String"
def TJ5 : u_T := fun k => match k with
  | 0 => ("java/lang/String", "value", "[B", true)
  | 1 => ("java/lang/String", "coder", "B", true)
  | 2 => ("java/lang/String", "hash", "I", false)
  | _ => ("java/lang/String", "hashIsZero", "Z", false)
def tyJ5 : Nat → FieldType := fun k => match k with
  | 0 => .array .byte
  | 1 => .byte
  | 2 => .int
  | _ => .boolean
abbrev wsJ50 : List Cond := u_ws RJ5 TJ5 4
theorem nmJ5 : ∀ a, a < 4 → ∀ b, b < 4 → a ≠ b → (TJ5 a).2.1 ≠ (TJ5 b).2.1 := by decide +kernel
theorem tyJ5_ok : ∀ k, k < 4 → parseFieldDescriptor (TJ5 k).2.2.1 = some (tyJ5 k) := by decide +kernel
abbrev cJ5_checkBoundsBeginEnd : ByteArray := prog_26_method_158_code
def yJ5_checkBoundsBeginEnd : MethodName := ⟨RJ5, "checkBoundsBeginEnd", "(III)V"⟩
def dkwJ5_checkBoundsBeginEnd_0 : List UInt8 := [26, 27, 28, 178, 4, 29, 184, 4, 38, 87, 177]
abbrev dktJ5_checkBoundsBeginEnd_0 : List UInt8 := dkwJ5_checkBoundsBeginEnd_0 ++ []
theorem dksJ5_checkBoundsBeginEnd_0 : cJ5_checkBoundsBeginEnd.data.toList.drop 0 = dktJ5_checkBoundsBeginEnd_0 := by decide +kernel
theorem dJ5_checkBoundsBeginEnd_0 : decode cJ5_checkBoundsBeginEnd 0 = .ok (.iload_n 0, 1) := dk_26 (dk_at dksJ5_checkBoundsBeginEnd_0 0 rfl rfl)
theorem dJ5_checkBoundsBeginEnd_1 : decode cJ5_checkBoundsBeginEnd 1 = .ok (.iload_n 1, 1) := dk_27 (dk_at dksJ5_checkBoundsBeginEnd_0 1 rfl rfl)
theorem dJ5_checkBoundsBeginEnd_2 : decode cJ5_checkBoundsBeginEnd 2 = .ok (.iload_n 2, 1) := dk_28 (dk_at dksJ5_checkBoundsBeginEnd_0 2 rfl rfl)
theorem dJ5_checkBoundsBeginEnd_3 : decode cJ5_checkBoundsBeginEnd 3 = .ok (.getstatic 1053, 3) := dk_178 4 29 (dk_at dksJ5_checkBoundsBeginEnd_0 3 rfl rfl)
theorem dJ5_checkBoundsBeginEnd_6 : decode cJ5_checkBoundsBeginEnd 6 = .ok (.invokestatic 1062, 3) := dk_184 4 38 (dk_at dksJ5_checkBoundsBeginEnd_0 6 rfl rfl)
theorem dJ5_checkBoundsBeginEnd_9 : decode cJ5_checkBoundsBeginEnd 9 = .ok (.pop, 1) := dk_87 (dk_at dksJ5_checkBoundsBeginEnd_0 9 rfl rfl)
theorem dJ5_checkBoundsBeginEnd_10 : decode cJ5_checkBoundsBeginEnd 10 = .ok (.return_, 1) := dk_177 (dk_at dksJ5_checkBoundsBeginEnd_0 10 rfl rfl)
abbrev cJ5_length : ByteArray := prog_26_method_54_code
def yJ5_length : MethodName := ⟨RJ5, "length", "()I"⟩
def dkwJ5_length_0 : List UInt8 := [42, 180, 0, 9, 190, 42, 182, 1, 79, 122, 172]
abbrev dktJ5_length_0 : List UInt8 := dkwJ5_length_0 ++ []
theorem dksJ5_length_0 : cJ5_length.data.toList.drop 0 = dktJ5_length_0 := by decide +kernel
theorem dJ5_length_0 : decode cJ5_length 0 = .ok (.aload_n 0, 1) := dk_42 (dk_at dksJ5_length_0 0 rfl rfl)
theorem dJ5_length_1 : decode cJ5_length 1 = .ok (.getfield 9, 3) := dk_180 0 9 (dk_at dksJ5_length_0 1 rfl rfl)
theorem dJ5_length_4 : decode cJ5_length 4 = .ok (.arraylength, 1) := dk_190 (dk_at dksJ5_length_0 4 rfl rfl)
theorem dJ5_length_5 : decode cJ5_length 5 = .ok (.aload_n 0, 1) := dk_42 (dk_at dksJ5_length_0 5 rfl rfl)
theorem dJ5_length_6 : decode cJ5_length 6 = .ok (.invokevirtual 335, 3) := dk_182 1 79 (dk_at dksJ5_length_0 6 rfl rfl)
theorem dJ5_length_9 : decode cJ5_length 9 = .ok (.ishr, 1) := dk_122 (dk_at dksJ5_length_0 9 rfl rfl)
theorem dJ5_length_10 : decode cJ5_length 10 = .ok (.ireturn, 1) := dk_172 (dk_at dksJ5_length_0 10 rfl rfl)
abbrev cJ5_coder : ByteArray := prog_26_method_152_code
def yJ5_coder : MethodName := ⟨RJ5, "coder", "()B"⟩
def dkwJ5_coder_0 : List UInt8 := [178, 0, 38, 153, 0, 10, 42, 180, 0, 15, 167, 0, 4, 4, 172]
abbrev dktJ5_coder_0 : List UInt8 := dkwJ5_coder_0 ++ []
theorem dksJ5_coder_0 : cJ5_coder.data.toList.drop 0 = dktJ5_coder_0 := by decide +kernel
theorem dJ5_coder_0 : decode cJ5_coder 0 = .ok (.getstatic 38, 3) := dk_178 0 38 (dk_at dksJ5_coder_0 0 rfl rfl)
theorem dJ5_coder_3 : decode cJ5_coder 3 = .ok (.ifCond .eq 10, 3) := dk_153 0 10 (dk_at dksJ5_coder_0 3 rfl rfl)
theorem dJ5_coder_6 : decode cJ5_coder 6 = .ok (.aload_n 0, 1) := dk_42 (dk_at dksJ5_coder_0 6 rfl rfl)
theorem dJ5_coder_7 : decode cJ5_coder 7 = .ok (.getfield 15, 3) := dk_180 0 15 (dk_at dksJ5_coder_0 7 rfl rfl)
theorem dJ5_coder_10 : decode cJ5_coder 10 = .ok (.goto 4, 3) := dk_167 0 4 (dk_at dksJ5_coder_0 10 rfl rfl)
theorem dJ5_coder_13 : decode cJ5_coder 13 = .ok (.iconst 1, 1) := dk_4 (dk_at dksJ5_coder_0 13 rfl rfl)
theorem dJ5_coder_14 : decode cJ5_coder 14 = .ok (.ireturn, 1) := dk_172 (dk_at dksJ5_coder_0 14 rfl rfl)
abbrev cJ5_checkBoundsOffCount : ByteArray := prog_26_method_157_code
def yJ5_checkBoundsOffCount : MethodName := ⟨RJ5, "checkBoundsOffCount", "(III)I"⟩
def dkwJ5_checkBoundsOffCount_0 : List UInt8 := [26, 27, 28, 178, 4, 29, 184, 4, 41, 172]
abbrev dktJ5_checkBoundsOffCount_0 : List UInt8 := dkwJ5_checkBoundsOffCount_0 ++ []
theorem dksJ5_checkBoundsOffCount_0 : cJ5_checkBoundsOffCount.data.toList.drop 0 = dktJ5_checkBoundsOffCount_0 := by decide +kernel
theorem dJ5_checkBoundsOffCount_0 : decode cJ5_checkBoundsOffCount 0 = .ok (.iload_n 0, 1) := dk_26 (dk_at dksJ5_checkBoundsOffCount_0 0 rfl rfl)
theorem dJ5_checkBoundsOffCount_1 : decode cJ5_checkBoundsOffCount 1 = .ok (.iload_n 1, 1) := dk_27 (dk_at dksJ5_checkBoundsOffCount_0 1 rfl rfl)
theorem dJ5_checkBoundsOffCount_2 : decode cJ5_checkBoundsOffCount 2 = .ok (.iload_n 2, 1) := dk_28 (dk_at dksJ5_checkBoundsOffCount_0 2 rfl rfl)
theorem dJ5_checkBoundsOffCount_3 : decode cJ5_checkBoundsOffCount 3 = .ok (.getstatic 1053, 3) := dk_178 4 29 (dk_at dksJ5_checkBoundsOffCount_0 3 rfl rfl)
theorem dJ5_checkBoundsOffCount_6 : decode cJ5_checkBoundsOffCount 6 = .ok (.invokestatic 1065, 3) := dk_184 4 41 (dk_at dksJ5_checkBoundsOffCount_0 6 rfl rfl)
theorem dJ5_checkBoundsOffCount_9 : decode cJ5_checkBoundsOffCount 9 = .ok (.ireturn, 1) := dk_172 (dk_at dksJ5_checkBoundsOffCount_0 9 rfl rfl)
abbrev cJ5_getBytes : ByteArray := prog_26_method_147_code
def yJ5_getBytes : MethodName := ⟨RJ5, "getBytes", "([BIB)V"⟩
def dkwJ5_getBytes_1 : List UInt8 := [184, 0, 212, 167, 0, 18, 42, 180, 0, 9, 3, 43, 28, 42, 180, 0, 9, 190, 184, 0, 106, 177]
abbrev dktJ5_getBytes_1 : List UInt8 := dkwJ5_getBytes_1 ++ []
def dkwJ5_getBytes_0 : List UInt8 := [42, 182, 1, 79, 29, 160, 0, 23, 42, 180, 0, 9, 3, 43, 28, 29, 120, 42, 180, 0, 9, 190]
abbrev dktJ5_getBytes_0 : List UInt8 := dkwJ5_getBytes_0 ++ dktJ5_getBytes_1
theorem dksJ5_getBytes_0 : cJ5_getBytes.data.toList.drop 0 = dktJ5_getBytes_0 := by decide +kernel
theorem dksJ5_getBytes_1 : cJ5_getBytes.data.toList.drop 22 = dktJ5_getBytes_1 := dk_seg dksJ5_getBytes_0 22 rfl rfl
theorem dJ5_getBytes_0 : decode cJ5_getBytes 0 = .ok (.aload_n 0, 1) := dk_42 (dk_at dksJ5_getBytes_0 0 rfl rfl)
theorem dJ5_getBytes_1 : decode cJ5_getBytes 1 = .ok (.invokevirtual 335, 3) := dk_182 1 79 (dk_at dksJ5_getBytes_0 1 rfl rfl)
theorem dJ5_getBytes_4 : decode cJ5_getBytes 4 = .ok (.iload_n 3, 1) := dk_29 (dk_at dksJ5_getBytes_0 4 rfl rfl)
theorem dJ5_getBytes_5 : decode cJ5_getBytes 5 = .ok (.if_icmp .ne 23, 3) := dk_160 0 23 (dk_at dksJ5_getBytes_0 5 rfl rfl)
theorem dJ5_getBytes_8 : decode cJ5_getBytes 8 = .ok (.aload_n 0, 1) := dk_42 (dk_at dksJ5_getBytes_0 8 rfl rfl)
theorem dJ5_getBytes_9 : decode cJ5_getBytes 9 = .ok (.getfield 9, 3) := dk_180 0 9 (dk_at dksJ5_getBytes_0 9 rfl rfl)
theorem dJ5_getBytes_12 : decode cJ5_getBytes 12 = .ok (.iconst 0, 1) := dk_3 (dk_at dksJ5_getBytes_0 12 rfl rfl)
theorem dJ5_getBytes_13 : decode cJ5_getBytes 13 = .ok (.aload_n 1, 1) := dk_43 (dk_at dksJ5_getBytes_0 13 rfl rfl)
theorem dJ5_getBytes_14 : decode cJ5_getBytes 14 = .ok (.iload_n 2, 1) := dk_28 (dk_at dksJ5_getBytes_0 14 rfl rfl)
theorem dJ5_getBytes_15 : decode cJ5_getBytes 15 = .ok (.iload_n 3, 1) := dk_29 (dk_at dksJ5_getBytes_0 15 rfl rfl)
theorem dJ5_getBytes_16 : decode cJ5_getBytes 16 = .ok (.ishl, 1) := dk_120 (dk_at dksJ5_getBytes_0 16 rfl rfl)
theorem dJ5_getBytes_17 : decode cJ5_getBytes 17 = .ok (.aload_n 0, 1) := dk_42 (dk_at dksJ5_getBytes_0 17 rfl rfl)
theorem dJ5_getBytes_18 : decode cJ5_getBytes 18 = .ok (.getfield 9, 3) := dk_180 0 9 (dk_at dksJ5_getBytes_0 18 rfl rfl)
theorem dJ5_getBytes_21 : decode cJ5_getBytes 21 = .ok (.arraylength, 1) := dk_190 (dk_at dksJ5_getBytes_0 21 rfl rfl)
theorem dJ5_getBytes_22 : decode cJ5_getBytes 22 = .ok (.invokestatic 212, 3) := dk_184 0 212 (dk_at dksJ5_getBytes_1 0 rfl rfl)
theorem dJ5_getBytes_25 : decode cJ5_getBytes 25 = .ok (.goto 18, 3) := dk_167 0 18 (dk_at dksJ5_getBytes_1 3 rfl rfl)
theorem dJ5_getBytes_28 : decode cJ5_getBytes 28 = .ok (.aload_n 0, 1) := dk_42 (dk_at dksJ5_getBytes_1 6 rfl rfl)
theorem dJ5_getBytes_29 : decode cJ5_getBytes 29 = .ok (.getfield 9, 3) := dk_180 0 9 (dk_at dksJ5_getBytes_1 7 rfl rfl)
theorem dJ5_getBytes_32 : decode cJ5_getBytes 32 = .ok (.iconst 0, 1) := dk_3 (dk_at dksJ5_getBytes_1 10 rfl rfl)
theorem dJ5_getBytes_33 : decode cJ5_getBytes 33 = .ok (.aload_n 1, 1) := dk_43 (dk_at dksJ5_getBytes_1 11 rfl rfl)
theorem dJ5_getBytes_34 : decode cJ5_getBytes 34 = .ok (.iload_n 2, 1) := dk_28 (dk_at dksJ5_getBytes_1 12 rfl rfl)
theorem dJ5_getBytes_35 : decode cJ5_getBytes 35 = .ok (.aload_n 0, 1) := dk_42 (dk_at dksJ5_getBytes_1 13 rfl rfl)
theorem dJ5_getBytes_36 : decode cJ5_getBytes 36 = .ok (.getfield 9, 3) := dk_180 0 9 (dk_at dksJ5_getBytes_1 14 rfl rfl)
theorem dJ5_getBytes_39 : decode cJ5_getBytes 39 = .ok (.arraylength, 1) := dk_190 (dk_at dksJ5_getBytes_1 17 rfl rfl)
theorem dJ5_getBytes_40 : decode cJ5_getBytes 40 = .ok (.invokestatic 106, 3) := dk_184 0 106 (dk_at dksJ5_getBytes_1 18 rfl rfl)
theorem dJ5_getBytes_43 : decode cJ5_getBytes 43 = .ok (.return_, 1) := dk_177 (dk_at dksJ5_getBytes_1 21 rfl rfl)
abbrev cJ5_init : ByteArray := prog_26_method_53_code
def yJ5_init : MethodName := ⟨RJ5, "<init>", "(Ljava/lang/StringBuilder;)V"⟩
def dkwJ5_init_0 : List UInt8 := [42, 43, 1, 183, 1, 233, 177]
abbrev dktJ5_init_0 : List UInt8 := dkwJ5_init_0 ++ []
theorem dksJ5_init_0 : cJ5_init.data.toList.drop 0 = dktJ5_init_0 := by decide +kernel
theorem dJ5_init_0 : decode cJ5_init 0 = .ok (.aload_n 0, 1) := dk_42 (dk_at dksJ5_init_0 0 rfl rfl)
theorem dJ5_init_1 : decode cJ5_init 1 = .ok (.aload_n 1, 1) := dk_43 (dk_at dksJ5_init_0 1 rfl rfl)
theorem dJ5_init_2 : decode cJ5_init 2 = .ok (.aconst_null, 1) := dk_1 (dk_at dksJ5_init_0 2 rfl rfl)
theorem dJ5_init_3 : decode cJ5_init 3 = .ok (.invokespecial 489, 3) := dk_183 1 233 (dk_at dksJ5_init_0 3 rfl rfl)
theorem dJ5_init_6 : decode cJ5_init 6 = .ok (.return_, 1) := dk_177 (dk_at dksJ5_init_0 6 rfl rfl)
abbrev cJ5_init_2 : ByteArray := prog_26_method_150_code
def yJ5_init_2 : MethodName := ⟨RJ5, "<init>", "(Ljava/lang/AbstractStringBuilder;Ljava/lang/Void;)V"⟩
def dkwJ5_init_2_4 : List UInt8 := [181, 0, 9, 177]
abbrev dktJ5_init_2_4 : List UInt8 := dkwJ5_init_2_4 ++ []
def dkwJ5_init_2_3 : List UInt8 := [184, 0, 47, 181, 0, 15, 177, 42, 4, 181, 0, 15, 42, 45, 3, 21, 4, 4, 120, 184, 0, 54]
abbrev dktJ5_init_2_3 : List UInt8 := dkwJ5_init_2_3 ++ dktJ5_init_2_4
def dkwJ5_init_2_2 : List UInt8 := [180, 4, 24, 153, 0, 28, 42, 45, 3, 21, 4, 184, 4, 27, 181, 0, 9, 42, 42, 180, 0, 9, 21, 4]
abbrev dktJ5_init_2_2 : List UInt8 := dkwJ5_init_2_2 ++ dktJ5_init_2_3
def dkwJ5_init_2_1 : List UInt8 := [181, 0, 15, 42, 45, 3, 21, 4, 184, 0, 54, 181, 0, 9, 167, 0, 59, 178, 0, 38, 153, 0, 35, 43]
abbrev dktJ5_init_2_1 : List UInt8 := dkwJ5_init_2_1 ++ dktJ5_init_2_2
def dkwJ5_init_2_0 : List UInt8 := [42, 183, 0, 1, 43, 182, 2, 40, 78, 43, 182, 2, 37, 54, 4, 43, 182, 4, 23, 153, 0, 22, 42, 3]
abbrev dktJ5_init_2_0 : List UInt8 := dkwJ5_init_2_0 ++ dktJ5_init_2_1
theorem dksJ5_init_2_0 : cJ5_init_2.data.toList.drop 0 = dktJ5_init_2_0 := by decide +kernel
theorem dksJ5_init_2_1 : cJ5_init_2.data.toList.drop 24 = dktJ5_init_2_1 := dk_seg dksJ5_init_2_0 24 rfl rfl
theorem dksJ5_init_2_2 : cJ5_init_2.data.toList.drop 48 = dktJ5_init_2_2 := dk_seg dksJ5_init_2_1 24 rfl rfl
theorem dksJ5_init_2_3 : cJ5_init_2.data.toList.drop 72 = dktJ5_init_2_3 := dk_seg dksJ5_init_2_2 24 rfl rfl
theorem dksJ5_init_2_4 : cJ5_init_2.data.toList.drop 94 = dktJ5_init_2_4 := dk_seg dksJ5_init_2_3 22 rfl rfl
theorem dJ5_init_2_0 : decode cJ5_init_2 0 = .ok (.aload_n 0, 1) := dk_42 (dk_at dksJ5_init_2_0 0 rfl rfl)
theorem dJ5_init_2_1 : decode cJ5_init_2 1 = .ok (.invokespecial 1, 3) := dk_183 0 1 (dk_at dksJ5_init_2_0 1 rfl rfl)
theorem dJ5_init_2_4 : decode cJ5_init_2 4 = .ok (.aload_n 1, 1) := dk_43 (dk_at dksJ5_init_2_0 4 rfl rfl)
theorem dJ5_init_2_5 : decode cJ5_init_2 5 = .ok (.invokevirtual 552, 3) := dk_182 2 40 (dk_at dksJ5_init_2_0 5 rfl rfl)
theorem dJ5_init_2_8 : decode cJ5_init_2 8 = .ok (.astore_n 3, 1) := dk_78 (dk_at dksJ5_init_2_0 8 rfl rfl)
theorem dJ5_init_2_9 : decode cJ5_init_2 9 = .ok (.aload_n 1, 1) := dk_43 (dk_at dksJ5_init_2_0 9 rfl rfl)
theorem dJ5_init_2_10 : decode cJ5_init_2 10 = .ok (.invokevirtual 549, 3) := dk_182 2 37 (dk_at dksJ5_init_2_0 10 rfl rfl)
theorem dJ5_init_2_13 : decode cJ5_init_2 13 = .ok (.istore 4, 2) := dk_54 4 (dk_at dksJ5_init_2_0 13 rfl rfl)
theorem dJ5_init_2_15 : decode cJ5_init_2 15 = .ok (.aload_n 1, 1) := dk_43 (dk_at dksJ5_init_2_0 15 rfl rfl)
theorem dJ5_init_2_16 : decode cJ5_init_2 16 = .ok (.invokevirtual 1047, 3) := dk_182 4 23 (dk_at dksJ5_init_2_0 16 rfl rfl)
theorem dJ5_init_2_19 : decode cJ5_init_2 19 = .ok (.ifCond .eq 22, 3) := dk_153 0 22 (dk_at dksJ5_init_2_0 19 rfl rfl)
theorem dJ5_init_2_22 : decode cJ5_init_2 22 = .ok (.aload_n 0, 1) := dk_42 (dk_at dksJ5_init_2_0 22 rfl rfl)
theorem dJ5_init_2_23 : decode cJ5_init_2 23 = .ok (.iconst 0, 1) := dk_3 (dk_at dksJ5_init_2_0 23 rfl rfl)
theorem dJ5_init_2_24 : decode cJ5_init_2 24 = .ok (.putfield 15, 3) := dk_181 0 15 (dk_at dksJ5_init_2_1 0 rfl rfl)
theorem dJ5_init_2_27 : decode cJ5_init_2 27 = .ok (.aload_n 0, 1) := dk_42 (dk_at dksJ5_init_2_1 3 rfl rfl)
theorem dJ5_init_2_28 : decode cJ5_init_2 28 = .ok (.aload_n 3, 1) := dk_45 (dk_at dksJ5_init_2_1 4 rfl rfl)
theorem dJ5_init_2_29 : decode cJ5_init_2 29 = .ok (.iconst 0, 1) := dk_3 (dk_at dksJ5_init_2_1 5 rfl rfl)
theorem dJ5_init_2_30 : decode cJ5_init_2 30 = .ok (.iload 4, 2) := dk_21 4 (dk_at dksJ5_init_2_1 6 rfl rfl)
theorem dJ5_init_2_32 : decode cJ5_init_2 32 = .ok (.invokestatic 54, 3) := dk_184 0 54 (dk_at dksJ5_init_2_1 8 rfl rfl)
theorem dJ5_init_2_35 : decode cJ5_init_2 35 = .ok (.putfield 9, 3) := dk_181 0 9 (dk_at dksJ5_init_2_1 11 rfl rfl)
theorem dJ5_init_2_38 : decode cJ5_init_2 38 = .ok (.goto 59, 3) := dk_167 0 59 (dk_at dksJ5_init_2_1 14 rfl rfl)
theorem dJ5_init_2_41 : decode cJ5_init_2 41 = .ok (.getstatic 38, 3) := dk_178 0 38 (dk_at dksJ5_init_2_1 17 rfl rfl)
theorem dJ5_init_2_44 : decode cJ5_init_2 44 = .ok (.ifCond .eq 35, 3) := dk_153 0 35 (dk_at dksJ5_init_2_1 20 rfl rfl)
theorem dJ5_init_2_47 : decode cJ5_init_2 47 = .ok (.aload_n 1, 1) := dk_43 (dk_at dksJ5_init_2_1 23 rfl rfl)
theorem dJ5_init_2_48 : decode cJ5_init_2 48 = .ok (.getfield 1048, 3) := dk_180 4 24 (dk_at dksJ5_init_2_2 0 rfl rfl)
theorem dJ5_init_2_51 : decode cJ5_init_2 51 = .ok (.ifCond .eq 28, 3) := dk_153 0 28 (dk_at dksJ5_init_2_2 3 rfl rfl)
theorem dJ5_init_2_54 : decode cJ5_init_2 54 = .ok (.aload_n 0, 1) := dk_42 (dk_at dksJ5_init_2_2 6 rfl rfl)
theorem dJ5_init_2_55 : decode cJ5_init_2 55 = .ok (.aload_n 3, 1) := dk_45 (dk_at dksJ5_init_2_2 7 rfl rfl)
theorem dJ5_init_2_56 : decode cJ5_init_2 56 = .ok (.iconst 0, 1) := dk_3 (dk_at dksJ5_init_2_2 8 rfl rfl)
theorem dJ5_init_2_57 : decode cJ5_init_2 57 = .ok (.iload 4, 2) := dk_21 4 (dk_at dksJ5_init_2_2 9 rfl rfl)
theorem dJ5_init_2_59 : decode cJ5_init_2 59 = .ok (.invokestatic 1051, 3) := dk_184 4 27 (dk_at dksJ5_init_2_2 11 rfl rfl)
theorem dJ5_init_2_62 : decode cJ5_init_2 62 = .ok (.putfield 9, 3) := dk_181 0 9 (dk_at dksJ5_init_2_2 14 rfl rfl)
theorem dJ5_init_2_65 : decode cJ5_init_2 65 = .ok (.aload_n 0, 1) := dk_42 (dk_at dksJ5_init_2_2 17 rfl rfl)
theorem dJ5_init_2_66 : decode cJ5_init_2 66 = .ok (.aload_n 0, 1) := dk_42 (dk_at dksJ5_init_2_2 18 rfl rfl)
theorem dJ5_init_2_67 : decode cJ5_init_2 67 = .ok (.getfield 9, 3) := dk_180 0 9 (dk_at dksJ5_init_2_2 19 rfl rfl)
theorem dJ5_init_2_70 : decode cJ5_init_2 70 = .ok (.iload 4, 2) := dk_21 4 (dk_at dksJ5_init_2_2 22 rfl rfl)
theorem dJ5_init_2_72 : decode cJ5_init_2 72 = .ok (.invokestatic 47, 3) := dk_184 0 47 (dk_at dksJ5_init_2_3 0 rfl rfl)
theorem dJ5_init_2_75 : decode cJ5_init_2 75 = .ok (.putfield 15, 3) := dk_181 0 15 (dk_at dksJ5_init_2_3 3 rfl rfl)
theorem dJ5_init_2_78 : decode cJ5_init_2 78 = .ok (.return_, 1) := dk_177 (dk_at dksJ5_init_2_3 6 rfl rfl)
theorem dJ5_init_2_79 : decode cJ5_init_2 79 = .ok (.aload_n 0, 1) := dk_42 (dk_at dksJ5_init_2_3 7 rfl rfl)
theorem dJ5_init_2_80 : decode cJ5_init_2 80 = .ok (.iconst 1, 1) := dk_4 (dk_at dksJ5_init_2_3 8 rfl rfl)
theorem dJ5_init_2_81 : decode cJ5_init_2 81 = .ok (.putfield 15, 3) := dk_181 0 15 (dk_at dksJ5_init_2_3 9 rfl rfl)
theorem dJ5_init_2_84 : decode cJ5_init_2 84 = .ok (.aload_n 0, 1) := dk_42 (dk_at dksJ5_init_2_3 12 rfl rfl)
theorem dJ5_init_2_85 : decode cJ5_init_2 85 = .ok (.aload_n 3, 1) := dk_45 (dk_at dksJ5_init_2_3 13 rfl rfl)
theorem dJ5_init_2_86 : decode cJ5_init_2 86 = .ok (.iconst 0, 1) := dk_3 (dk_at dksJ5_init_2_3 14 rfl rfl)
theorem dJ5_init_2_87 : decode cJ5_init_2 87 = .ok (.iload 4, 2) := dk_21 4 (dk_at dksJ5_init_2_3 15 rfl rfl)
theorem dJ5_init_2_89 : decode cJ5_init_2 89 = .ok (.iconst 1, 1) := dk_4 (dk_at dksJ5_init_2_3 17 rfl rfl)
theorem dJ5_init_2_90 : decode cJ5_init_2 90 = .ok (.ishl, 1) := dk_120 (dk_at dksJ5_init_2_3 18 rfl rfl)
theorem dJ5_init_2_91 : decode cJ5_init_2 91 = .ok (.invokestatic 54, 3) := dk_184 0 54 (dk_at dksJ5_init_2_3 19 rfl rfl)
theorem dJ5_init_2_94 : decode cJ5_init_2 94 = .ok (.putfield 9, 3) := dk_181 0 9 (dk_at dksJ5_init_2_4 0 rfl rfl)
theorem dJ5_init_2_97 : decode cJ5_init_2 97 = .ok (.return_, 1) := dk_177 (dk_at dksJ5_init_2_4 3 rfl rfl)
abbrev cJ5_checkIndex : ByteArray := prog_26_method_155_code
def yJ5_checkIndex : MethodName := ⟨RJ5, "checkIndex", "(II)V"⟩
def dkwJ5_checkIndex_0 : List UInt8 := [26, 27, 178, 4, 29, 184, 4, 35, 87, 177]
abbrev dktJ5_checkIndex_0 : List UInt8 := dkwJ5_checkIndex_0 ++ []
theorem dksJ5_checkIndex_0 : cJ5_checkIndex.data.toList.drop 0 = dktJ5_checkIndex_0 := by decide +kernel
theorem dJ5_checkIndex_0 : decode cJ5_checkIndex 0 = .ok (.iload_n 0, 1) := dk_26 (dk_at dksJ5_checkIndex_0 0 rfl rfl)
theorem dJ5_checkIndex_1 : decode cJ5_checkIndex 1 = .ok (.iload_n 1, 1) := dk_27 (dk_at dksJ5_checkIndex_0 1 rfl rfl)
theorem dJ5_checkIndex_2 : decode cJ5_checkIndex 2 = .ok (.getstatic 1053, 3) := dk_178 4 29 (dk_at dksJ5_checkIndex_0 2 rfl rfl)
theorem dJ5_checkIndex_5 : decode cJ5_checkIndex 5 = .ok (.invokestatic 1059, 3) := dk_184 4 35 (dk_at dksJ5_checkIndex_0 5 rfl rfl)
theorem dJ5_checkIndex_8 : decode cJ5_checkIndex 8 = .ok (.pop, 1) := dk_87 (dk_at dksJ5_checkIndex_0 8 rfl rfl)
theorem dJ5_checkIndex_9 : decode cJ5_checkIndex 9 = .ok (.return_, 1) := dk_177 (dk_at dksJ5_checkIndex_0 9 rfl rfl)
abbrev cJ5_indexOf : ByteArray := prog_26_method_80_code
def yJ5_indexOf : MethodName := ⟨RJ5, "indexOf", "(II)I"⟩
def dkwJ5_indexOf_1 : List UInt8 := [180, 0, 9, 27, 28, 42, 182, 1, 249, 184, 2, 128, 172]
abbrev dktJ5_indexOf_1 : List UInt8 := dkwJ5_indexOf_1 ++ []
def dkwJ5_indexOf_0 : List UInt8 := [42, 182, 1, 236, 153, 0, 19, 42, 180, 0, 9, 27, 28, 42, 182, 1, 249, 184, 2, 125, 167, 0, 16, 42]
abbrev dktJ5_indexOf_0 : List UInt8 := dkwJ5_indexOf_0 ++ dktJ5_indexOf_1
theorem dksJ5_indexOf_0 : cJ5_indexOf.data.toList.drop 0 = dktJ5_indexOf_0 := by decide +kernel
theorem dksJ5_indexOf_1 : cJ5_indexOf.data.toList.drop 24 = dktJ5_indexOf_1 := dk_seg dksJ5_indexOf_0 24 rfl rfl
theorem dJ5_indexOf_0 : decode cJ5_indexOf 0 = .ok (.aload_n 0, 1) := dk_42 (dk_at dksJ5_indexOf_0 0 rfl rfl)
theorem dJ5_indexOf_1 : decode cJ5_indexOf 1 = .ok (.invokevirtual 492, 3) := dk_182 1 236 (dk_at dksJ5_indexOf_0 1 rfl rfl)
theorem dJ5_indexOf_4 : decode cJ5_indexOf 4 = .ok (.ifCond .eq 19, 3) := dk_153 0 19 (dk_at dksJ5_indexOf_0 4 rfl rfl)
theorem dJ5_indexOf_7 : decode cJ5_indexOf 7 = .ok (.aload_n 0, 1) := dk_42 (dk_at dksJ5_indexOf_0 7 rfl rfl)
theorem dJ5_indexOf_8 : decode cJ5_indexOf 8 = .ok (.getfield 9, 3) := dk_180 0 9 (dk_at dksJ5_indexOf_0 8 rfl rfl)
theorem dJ5_indexOf_11 : decode cJ5_indexOf 11 = .ok (.iload_n 1, 1) := dk_27 (dk_at dksJ5_indexOf_0 11 rfl rfl)
theorem dJ5_indexOf_12 : decode cJ5_indexOf 12 = .ok (.iload_n 2, 1) := dk_28 (dk_at dksJ5_indexOf_0 12 rfl rfl)
theorem dJ5_indexOf_13 : decode cJ5_indexOf 13 = .ok (.aload_n 0, 1) := dk_42 (dk_at dksJ5_indexOf_0 13 rfl rfl)
theorem dJ5_indexOf_14 : decode cJ5_indexOf 14 = .ok (.invokevirtual 505, 3) := dk_182 1 249 (dk_at dksJ5_indexOf_0 14 rfl rfl)
theorem dJ5_indexOf_17 : decode cJ5_indexOf 17 = .ok (.invokestatic 637, 3) := dk_184 2 125 (dk_at dksJ5_indexOf_0 17 rfl rfl)
theorem dJ5_indexOf_20 : decode cJ5_indexOf 20 = .ok (.goto 16, 3) := dk_167 0 16 (dk_at dksJ5_indexOf_0 20 rfl rfl)
theorem dJ5_indexOf_23 : decode cJ5_indexOf 23 = .ok (.aload_n 0, 1) := dk_42 (dk_at dksJ5_indexOf_0 23 rfl rfl)
theorem dJ5_indexOf_24 : decode cJ5_indexOf 24 = .ok (.getfield 9, 3) := dk_180 0 9 (dk_at dksJ5_indexOf_1 0 rfl rfl)
theorem dJ5_indexOf_27 : decode cJ5_indexOf 27 = .ok (.iload_n 1, 1) := dk_27 (dk_at dksJ5_indexOf_1 3 rfl rfl)
theorem dJ5_indexOf_28 : decode cJ5_indexOf 28 = .ok (.iload_n 2, 1) := dk_28 (dk_at dksJ5_indexOf_1 4 rfl rfl)
theorem dJ5_indexOf_29 : decode cJ5_indexOf 29 = .ok (.aload_n 0, 1) := dk_42 (dk_at dksJ5_indexOf_1 5 rfl rfl)
theorem dJ5_indexOf_30 : decode cJ5_indexOf 30 = .ok (.invokevirtual 505, 3) := dk_182 1 249 (dk_at dksJ5_indexOf_1 6 rfl rfl)
theorem dJ5_indexOf_33 : decode cJ5_indexOf 33 = .ok (.invokestatic 640, 3) := dk_184 2 128 (dk_at dksJ5_indexOf_1 9 rfl rfl)
theorem dJ5_indexOf_36 : decode cJ5_indexOf 36 = .ok (.ireturn, 1) := dk_172 (dk_at dksJ5_indexOf_1 12 rfl rfl)
abbrev cJ5_isLatin1 : ByteArray := prog_26_method_154_code
def yJ5_isLatin1 : MethodName := ⟨RJ5, "isLatin1", "()Z"⟩
def dkwJ5_isLatin1_0 : List UInt8 := [178, 0, 38, 153, 0, 14, 42, 180, 0, 15, 154, 0, 7, 4, 167, 0, 4, 3, 172]
abbrev dktJ5_isLatin1_0 : List UInt8 := dkwJ5_isLatin1_0 ++ []
theorem dksJ5_isLatin1_0 : cJ5_isLatin1.data.toList.drop 0 = dktJ5_isLatin1_0 := by decide +kernel
theorem dJ5_isLatin1_0 : decode cJ5_isLatin1 0 = .ok (.getstatic 38, 3) := dk_178 0 38 (dk_at dksJ5_isLatin1_0 0 rfl rfl)
theorem dJ5_isLatin1_3 : decode cJ5_isLatin1 3 = .ok (.ifCond .eq 14, 3) := dk_153 0 14 (dk_at dksJ5_isLatin1_0 3 rfl rfl)
theorem dJ5_isLatin1_6 : decode cJ5_isLatin1 6 = .ok (.aload_n 0, 1) := dk_42 (dk_at dksJ5_isLatin1_0 6 rfl rfl)
theorem dJ5_isLatin1_7 : decode cJ5_isLatin1 7 = .ok (.getfield 15, 3) := dk_180 0 15 (dk_at dksJ5_isLatin1_0 7 rfl rfl)
theorem dJ5_isLatin1_10 : decode cJ5_isLatin1 10 = .ok (.ifCond .ne 7, 3) := dk_154 0 7 (dk_at dksJ5_isLatin1_0 10 rfl rfl)
theorem dJ5_isLatin1_13 : decode cJ5_isLatin1 13 = .ok (.iconst 1, 1) := dk_4 (dk_at dksJ5_isLatin1_0 13 rfl rfl)
theorem dJ5_isLatin1_14 : decode cJ5_isLatin1 14 = .ok (.goto 4, 3) := dk_167 0 4 (dk_at dksJ5_isLatin1_0 14 rfl rfl)
theorem dJ5_isLatin1_17 : decode cJ5_isLatin1 17 = .ok (.iconst 0, 1) := dk_3 (dk_at dksJ5_isLatin1_0 17 rfl rfl)
theorem dJ5_isLatin1_18 : decode cJ5_isLatin1 18 = .ok (.ireturn, 1) := dk_172 (dk_at dksJ5_isLatin1_0 18 rfl rfl)
abbrev cJ5_substring : ByteArray := prog_26_method_91_code
def yJ5_substring : MethodName := ⟨RJ5, "substring", "(I)Ljava/lang/String;"⟩
def dkwJ5_substring_0 : List UInt8 := [42, 27, 42, 182, 1, 249, 182, 2, 169, 176]
abbrev dktJ5_substring_0 : List UInt8 := dkwJ5_substring_0 ++ []
theorem dksJ5_substring_0 : cJ5_substring.data.toList.drop 0 = dktJ5_substring_0 := by decide +kernel
theorem dJ5_substring_0 : decode cJ5_substring 0 = .ok (.aload_n 0, 1) := dk_42 (dk_at dksJ5_substring_0 0 rfl rfl)
theorem dJ5_substring_1 : decode cJ5_substring 1 = .ok (.iload_n 1, 1) := dk_27 (dk_at dksJ5_substring_0 1 rfl rfl)
theorem dJ5_substring_2 : decode cJ5_substring 2 = .ok (.aload_n 0, 1) := dk_42 (dk_at dksJ5_substring_0 2 rfl rfl)
theorem dJ5_substring_3 : decode cJ5_substring 3 = .ok (.invokevirtual 505, 3) := dk_182 1 249 (dk_at dksJ5_substring_0 3 rfl rfl)
theorem dJ5_substring_6 : decode cJ5_substring 6 = .ok (.invokevirtual 681, 3) := dk_182 2 169 (dk_at dksJ5_substring_0 6 rfl rfl)
theorem dJ5_substring_9 : decode cJ5_substring 9 = .ok (.areturn, 1) := dk_176 (dk_at dksJ5_substring_0 9 rfl rfl)
abbrev cJ5_substring_2 : ByteArray := prog_26_method_92_code
def yJ5_substring_2 : MethodName := ⟨RJ5, "substring", "(II)Ljava/lang/String;"⟩
def dkwJ5_substring_2_2 : List UInt8 := [180, 0, 9, 27, 21, 4, 184, 2, 177, 176]
abbrev dktJ5_substring_2_2 : List UInt8 := dkwJ5_substring_2_2 ++ []
def dkwJ5_substring_2_1 : List UInt8 := [100, 54, 4, 42, 182, 1, 236, 153, 0, 16, 42, 180, 0, 9, 27, 21, 4, 184, 2, 173, 167, 0, 13, 42]
abbrev dktJ5_substring_2_1 : List UInt8 := dkwJ5_substring_2_1 ++ dktJ5_substring_2_2
def dkwJ5_substring_2_0 : List UInt8 := [42, 182, 1, 249, 62, 27, 28, 29, 184, 2, 9, 27, 154, 0, 10, 28, 29, 160, 0, 5, 42, 176, 28, 27]
abbrev dktJ5_substring_2_0 : List UInt8 := dkwJ5_substring_2_0 ++ dktJ5_substring_2_1
theorem dksJ5_substring_2_0 : cJ5_substring_2.data.toList.drop 0 = dktJ5_substring_2_0 := by decide +kernel
theorem dksJ5_substring_2_1 : cJ5_substring_2.data.toList.drop 24 = dktJ5_substring_2_1 := dk_seg dksJ5_substring_2_0 24 rfl rfl
theorem dksJ5_substring_2_2 : cJ5_substring_2.data.toList.drop 48 = dktJ5_substring_2_2 := dk_seg dksJ5_substring_2_1 24 rfl rfl
theorem dJ5_substring_2_0 : decode cJ5_substring_2 0 = .ok (.aload_n 0, 1) := dk_42 (dk_at dksJ5_substring_2_0 0 rfl rfl)
theorem dJ5_substring_2_1 : decode cJ5_substring_2 1 = .ok (.invokevirtual 505, 3) := dk_182 1 249 (dk_at dksJ5_substring_2_0 1 rfl rfl)
theorem dJ5_substring_2_4 : decode cJ5_substring_2 4 = .ok (.istore_n 3, 1) := dk_62 (dk_at dksJ5_substring_2_0 4 rfl rfl)
theorem dJ5_substring_2_5 : decode cJ5_substring_2 5 = .ok (.iload_n 1, 1) := dk_27 (dk_at dksJ5_substring_2_0 5 rfl rfl)
theorem dJ5_substring_2_6 : decode cJ5_substring_2 6 = .ok (.iload_n 2, 1) := dk_28 (dk_at dksJ5_substring_2_0 6 rfl rfl)
theorem dJ5_substring_2_7 : decode cJ5_substring_2 7 = .ok (.iload_n 3, 1) := dk_29 (dk_at dksJ5_substring_2_0 7 rfl rfl)
theorem dJ5_substring_2_8 : decode cJ5_substring_2 8 = .ok (.invokestatic 521, 3) := dk_184 2 9 (dk_at dksJ5_substring_2_0 8 rfl rfl)
theorem dJ5_substring_2_11 : decode cJ5_substring_2 11 = .ok (.iload_n 1, 1) := dk_27 (dk_at dksJ5_substring_2_0 11 rfl rfl)
theorem dJ5_substring_2_12 : decode cJ5_substring_2 12 = .ok (.ifCond .ne 10, 3) := dk_154 0 10 (dk_at dksJ5_substring_2_0 12 rfl rfl)
theorem dJ5_substring_2_15 : decode cJ5_substring_2 15 = .ok (.iload_n 2, 1) := dk_28 (dk_at dksJ5_substring_2_0 15 rfl rfl)
theorem dJ5_substring_2_16 : decode cJ5_substring_2 16 = .ok (.iload_n 3, 1) := dk_29 (dk_at dksJ5_substring_2_0 16 rfl rfl)
theorem dJ5_substring_2_17 : decode cJ5_substring_2 17 = .ok (.if_icmp .ne 5, 3) := dk_160 0 5 (dk_at dksJ5_substring_2_0 17 rfl rfl)
theorem dJ5_substring_2_20 : decode cJ5_substring_2 20 = .ok (.aload_n 0, 1) := dk_42 (dk_at dksJ5_substring_2_0 20 rfl rfl)
theorem dJ5_substring_2_21 : decode cJ5_substring_2 21 = .ok (.areturn, 1) := dk_176 (dk_at dksJ5_substring_2_0 21 rfl rfl)
theorem dJ5_substring_2_22 : decode cJ5_substring_2 22 = .ok (.iload_n 2, 1) := dk_28 (dk_at dksJ5_substring_2_0 22 rfl rfl)
theorem dJ5_substring_2_23 : decode cJ5_substring_2 23 = .ok (.iload_n 1, 1) := dk_27 (dk_at dksJ5_substring_2_0 23 rfl rfl)
theorem dJ5_substring_2_24 : decode cJ5_substring_2 24 = .ok (.isub, 1) := dk_100 (dk_at dksJ5_substring_2_1 0 rfl rfl)
theorem dJ5_substring_2_25 : decode cJ5_substring_2 25 = .ok (.istore 4, 2) := dk_54 4 (dk_at dksJ5_substring_2_1 1 rfl rfl)
theorem dJ5_substring_2_27 : decode cJ5_substring_2 27 = .ok (.aload_n 0, 1) := dk_42 (dk_at dksJ5_substring_2_1 3 rfl rfl)
theorem dJ5_substring_2_28 : decode cJ5_substring_2 28 = .ok (.invokevirtual 492, 3) := dk_182 1 236 (dk_at dksJ5_substring_2_1 4 rfl rfl)
theorem dJ5_substring_2_31 : decode cJ5_substring_2 31 = .ok (.ifCond .eq 16, 3) := dk_153 0 16 (dk_at dksJ5_substring_2_1 7 rfl rfl)
theorem dJ5_substring_2_34 : decode cJ5_substring_2 34 = .ok (.aload_n 0, 1) := dk_42 (dk_at dksJ5_substring_2_1 10 rfl rfl)
theorem dJ5_substring_2_35 : decode cJ5_substring_2 35 = .ok (.getfield 9, 3) := dk_180 0 9 (dk_at dksJ5_substring_2_1 11 rfl rfl)
theorem dJ5_substring_2_38 : decode cJ5_substring_2 38 = .ok (.iload_n 1, 1) := dk_27 (dk_at dksJ5_substring_2_1 14 rfl rfl)
theorem dJ5_substring_2_39 : decode cJ5_substring_2 39 = .ok (.iload 4, 2) := dk_21 4 (dk_at dksJ5_substring_2_1 15 rfl rfl)
theorem dJ5_substring_2_41 : decode cJ5_substring_2 41 = .ok (.invokestatic 685, 3) := dk_184 2 173 (dk_at dksJ5_substring_2_1 17 rfl rfl)
theorem dJ5_substring_2_44 : decode cJ5_substring_2 44 = .ok (.goto 13, 3) := dk_167 0 13 (dk_at dksJ5_substring_2_1 20 rfl rfl)
theorem dJ5_substring_2_47 : decode cJ5_substring_2 47 = .ok (.aload_n 0, 1) := dk_42 (dk_at dksJ5_substring_2_1 23 rfl rfl)
theorem dJ5_substring_2_48 : decode cJ5_substring_2 48 = .ok (.getfield 9, 3) := dk_180 0 9 (dk_at dksJ5_substring_2_2 0 rfl rfl)
theorem dJ5_substring_2_51 : decode cJ5_substring_2 51 = .ok (.iload_n 1, 1) := dk_27 (dk_at dksJ5_substring_2_2 3 rfl rfl)
theorem dJ5_substring_2_52 : decode cJ5_substring_2 52 = .ok (.iload 4, 2) := dk_21 4 (dk_at dksJ5_substring_2_2 4 rfl rfl)
theorem dJ5_substring_2_54 : decode cJ5_substring_2 54 = .ok (.invokestatic 689, 3) := dk_184 2 177 (dk_at dksJ5_substring_2_2 6 rfl rfl)
theorem dJ5_substring_2_57 : decode cJ5_substring_2 57 = .ok (.areturn, 1) := dk_176 (dk_at dksJ5_substring_2_2 9 rfl rfl)
abbrev cJ5_init_3 : ByteArray := prog_26_method_151_code
def yJ5_init_3 : MethodName := ⟨RJ5, "<init>", "([BB)V"⟩
def dkwJ5_init_3_0 : List UInt8 := [42, 183, 0, 1, 42, 43, 181, 0, 9, 42, 28, 181, 0, 15, 177]
abbrev dktJ5_init_3_0 : List UInt8 := dkwJ5_init_3_0 ++ []
theorem dksJ5_init_3_0 : cJ5_init_3.data.toList.drop 0 = dktJ5_init_3_0 := by decide +kernel
theorem dJ5_init_3_0 : decode cJ5_init_3 0 = .ok (.aload_n 0, 1) := dk_42 (dk_at dksJ5_init_3_0 0 rfl rfl)
theorem dJ5_init_3_1 : decode cJ5_init_3 1 = .ok (.invokespecial 1, 3) := dk_183 0 1 (dk_at dksJ5_init_3_0 1 rfl rfl)
theorem dJ5_init_3_4 : decode cJ5_init_3 4 = .ok (.aload_n 0, 1) := dk_42 (dk_at dksJ5_init_3_0 4 rfl rfl)
theorem dJ5_init_3_5 : decode cJ5_init_3 5 = .ok (.aload_n 1, 1) := dk_43 (dk_at dksJ5_init_3_0 5 rfl rfl)
theorem dJ5_init_3_6 : decode cJ5_init_3 6 = .ok (.putfield 9, 3) := dk_181 0 9 (dk_at dksJ5_init_3_0 6 rfl rfl)
theorem dJ5_init_3_9 : decode cJ5_init_3 9 = .ok (.aload_n 0, 1) := dk_42 (dk_at dksJ5_init_3_0 9 rfl rfl)
theorem dJ5_init_3_10 : decode cJ5_init_3 10 = .ok (.iload_n 2, 1) := dk_28 (dk_at dksJ5_init_3_0 10 rfl rfl)
theorem dJ5_init_3_11 : decode cJ5_init_3 11 = .ok (.putfield 15, 3) := dk_181 0 15 (dk_at dksJ5_init_3_0 11 rfl rfl)
theorem dJ5_init_3_14 : decode cJ5_init_3 14 = .ok (.return_, 1) := dk_177 (dk_at dksJ5_init_3_0 14 rfl rfl)
abbrev cJ5_charAt : ByteArray := prog_26_method_56_code
def yJ5_charAt : MethodName := ⟨RJ5, "charAt", "(I)C"⟩
def dkwJ5_charAt_1 : List UInt8 := [172]
abbrev dktJ5_charAt_1 : List UInt8 := dkwJ5_charAt_1 ++ []
def dkwJ5_charAt_0 : List UInt8 := [42, 182, 1, 236, 153, 0, 12, 42, 180, 0, 9, 27, 184, 1, 239, 172, 42, 180, 0, 9, 27, 184, 1, 242]
abbrev dktJ5_charAt_0 : List UInt8 := dkwJ5_charAt_0 ++ dktJ5_charAt_1
theorem dksJ5_charAt_0 : cJ5_charAt.data.toList.drop 0 = dktJ5_charAt_0 := by decide +kernel
theorem dksJ5_charAt_1 : cJ5_charAt.data.toList.drop 24 = dktJ5_charAt_1 := dk_seg dksJ5_charAt_0 24 rfl rfl
theorem dJ5_charAt_0 : decode cJ5_charAt 0 = .ok (.aload_n 0, 1) := dk_42 (dk_at dksJ5_charAt_0 0 rfl rfl)
theorem dJ5_charAt_1 : decode cJ5_charAt 1 = .ok (.invokevirtual 492, 3) := dk_182 1 236 (dk_at dksJ5_charAt_0 1 rfl rfl)
theorem dJ5_charAt_4 : decode cJ5_charAt 4 = .ok (.ifCond .eq 12, 3) := dk_153 0 12 (dk_at dksJ5_charAt_0 4 rfl rfl)
theorem dJ5_charAt_7 : decode cJ5_charAt 7 = .ok (.aload_n 0, 1) := dk_42 (dk_at dksJ5_charAt_0 7 rfl rfl)
theorem dJ5_charAt_8 : decode cJ5_charAt 8 = .ok (.getfield 9, 3) := dk_180 0 9 (dk_at dksJ5_charAt_0 8 rfl rfl)
theorem dJ5_charAt_11 : decode cJ5_charAt 11 = .ok (.iload_n 1, 1) := dk_27 (dk_at dksJ5_charAt_0 11 rfl rfl)
theorem dJ5_charAt_12 : decode cJ5_charAt 12 = .ok (.invokestatic 495, 3) := dk_184 1 239 (dk_at dksJ5_charAt_0 12 rfl rfl)
theorem dJ5_charAt_15 : decode cJ5_charAt 15 = .ok (.ireturn, 1) := dk_172 (dk_at dksJ5_charAt_0 15 rfl rfl)
theorem dJ5_charAt_16 : decode cJ5_charAt 16 = .ok (.aload_n 0, 1) := dk_42 (dk_at dksJ5_charAt_0 16 rfl rfl)
theorem dJ5_charAt_17 : decode cJ5_charAt 17 = .ok (.getfield 9, 3) := dk_180 0 9 (dk_at dksJ5_charAt_0 17 rfl rfl)
theorem dJ5_charAt_20 : decode cJ5_charAt 20 = .ok (.iload_n 1, 1) := dk_27 (dk_at dksJ5_charAt_0 20 rfl rfl)
theorem dJ5_charAt_21 : decode cJ5_charAt 21 = .ok (.invokestatic 498, 3) := dk_184 1 242 (dk_at dksJ5_charAt_0 21 rfl rfl)
theorem dJ5_charAt_24 : decode cJ5_charAt 24 = .ok (.ireturn, 1) := dk_172 (dk_at dksJ5_charAt_1 0 rfl rfl)
abbrev cJ5_equals : ByteArray := prog_26_method_66_code
def yJ5_equals : MethodName := ⟨RJ5, "equals", "(Ljava/lang/Object;)Z"⟩
def dkwJ5_equals_2 : List UInt8 := [184, 2, 29, 153, 0, 7, 4, 167, 0, 4, 3, 172]
abbrev dktJ5_equals_2 : List UInt8 := dkwJ5_equals_2 ++ []
def dkwJ5_equals_1 : List UInt8 := [153, 0, 14, 42, 180, 0, 15, 44, 180, 0, 15, 160, 0, 21, 42, 180, 0, 9, 44, 180, 0, 9]
abbrev dktJ5_equals_1 : List UInt8 := dkwJ5_equals_1 ++ dktJ5_equals_2
def dkwJ5_equals_0 : List UInt8 := [42, 43, 166, 0, 5, 4, 172, 43, 193, 0, 10, 153, 0, 43, 43, 192, 0, 10, 77, 178, 0, 38]
abbrev dktJ5_equals_0 : List UInt8 := dkwJ5_equals_0 ++ dktJ5_equals_1
theorem dksJ5_equals_0 : cJ5_equals.data.toList.drop 0 = dktJ5_equals_0 := by decide +kernel
theorem dksJ5_equals_1 : cJ5_equals.data.toList.drop 22 = dktJ5_equals_1 := dk_seg dksJ5_equals_0 22 rfl rfl
theorem dksJ5_equals_2 : cJ5_equals.data.toList.drop 44 = dktJ5_equals_2 := dk_seg dksJ5_equals_1 22 rfl rfl
theorem dJ5_equals_0 : decode cJ5_equals 0 = .ok (.aload_n 0, 1) := dk_42 (dk_at dksJ5_equals_0 0 rfl rfl)
theorem dJ5_equals_1 : decode cJ5_equals 1 = .ok (.aload_n 1, 1) := dk_43 (dk_at dksJ5_equals_0 1 rfl rfl)
theorem dJ5_equals_2 : decode cJ5_equals 2 = .ok (.if_acmp .ne 5, 3) := dk_166 0 5 (dk_at dksJ5_equals_0 2 rfl rfl)
theorem dJ5_equals_5 : decode cJ5_equals 5 = .ok (.iconst 1, 1) := dk_4 (dk_at dksJ5_equals_0 5 rfl rfl)
theorem dJ5_equals_6 : decode cJ5_equals 6 = .ok (.ireturn, 1) := dk_172 (dk_at dksJ5_equals_0 6 rfl rfl)
theorem dJ5_equals_7 : decode cJ5_equals 7 = .ok (.aload_n 1, 1) := dk_43 (dk_at dksJ5_equals_0 7 rfl rfl)
theorem dJ5_equals_8 : decode cJ5_equals 8 = .ok (.instanceof 10, 3) := dk_193 0 10 (dk_at dksJ5_equals_0 8 rfl rfl)
theorem dJ5_equals_11 : decode cJ5_equals 11 = .ok (.ifCond .eq 43, 3) := dk_153 0 43 (dk_at dksJ5_equals_0 11 rfl rfl)
theorem dJ5_equals_14 : decode cJ5_equals 14 = .ok (.aload_n 1, 1) := dk_43 (dk_at dksJ5_equals_0 14 rfl rfl)
theorem dJ5_equals_15 : decode cJ5_equals 15 = .ok (.checkcast 10, 3) := dk_192 0 10 (dk_at dksJ5_equals_0 15 rfl rfl)
theorem dJ5_equals_18 : decode cJ5_equals 18 = .ok (.astore_n 2, 1) := dk_77 (dk_at dksJ5_equals_0 18 rfl rfl)
theorem dJ5_equals_19 : decode cJ5_equals 19 = .ok (.getstatic 38, 3) := dk_178 0 38 (dk_at dksJ5_equals_0 19 rfl rfl)
theorem dJ5_equals_22 : decode cJ5_equals 22 = .ok (.ifCond .eq 14, 3) := dk_153 0 14 (dk_at dksJ5_equals_1 0 rfl rfl)
theorem dJ5_equals_25 : decode cJ5_equals 25 = .ok (.aload_n 0, 1) := dk_42 (dk_at dksJ5_equals_1 3 rfl rfl)
theorem dJ5_equals_26 : decode cJ5_equals 26 = .ok (.getfield 15, 3) := dk_180 0 15 (dk_at dksJ5_equals_1 4 rfl rfl)
theorem dJ5_equals_29 : decode cJ5_equals 29 = .ok (.aload_n 2, 1) := dk_44 (dk_at dksJ5_equals_1 7 rfl rfl)
theorem dJ5_equals_30 : decode cJ5_equals 30 = .ok (.getfield 15, 3) := dk_180 0 15 (dk_at dksJ5_equals_1 8 rfl rfl)
theorem dJ5_equals_33 : decode cJ5_equals 33 = .ok (.if_icmp .ne 21, 3) := dk_160 0 21 (dk_at dksJ5_equals_1 11 rfl rfl)
theorem dJ5_equals_36 : decode cJ5_equals 36 = .ok (.aload_n 0, 1) := dk_42 (dk_at dksJ5_equals_1 14 rfl rfl)
theorem dJ5_equals_37 : decode cJ5_equals 37 = .ok (.getfield 9, 3) := dk_180 0 9 (dk_at dksJ5_equals_1 15 rfl rfl)
theorem dJ5_equals_40 : decode cJ5_equals 40 = .ok (.aload_n 2, 1) := dk_44 (dk_at dksJ5_equals_1 18 rfl rfl)
theorem dJ5_equals_41 : decode cJ5_equals 41 = .ok (.getfield 9, 3) := dk_180 0 9 (dk_at dksJ5_equals_1 19 rfl rfl)
theorem dJ5_equals_44 : decode cJ5_equals 44 = .ok (.invokestatic 541, 3) := dk_184 2 29 (dk_at dksJ5_equals_2 0 rfl rfl)
theorem dJ5_equals_47 : decode cJ5_equals 47 = .ok (.ifCond .eq 7, 3) := dk_153 0 7 (dk_at dksJ5_equals_2 3 rfl rfl)
theorem dJ5_equals_50 : decode cJ5_equals 50 = .ok (.iconst 1, 1) := dk_4 (dk_at dksJ5_equals_2 6 rfl rfl)
theorem dJ5_equals_51 : decode cJ5_equals 51 = .ok (.goto 4, 3) := dk_167 0 4 (dk_at dksJ5_equals_2 7 rfl rfl)
theorem dJ5_equals_54 : decode cJ5_equals 54 = .ok (.iconst 0, 1) := dk_3 (dk_at dksJ5_equals_2 10 rfl rfl)
theorem dJ5_equals_55 : decode cJ5_equals 55 = .ok (.ireturn, 1) := dk_172 (dk_at dksJ5_equals_2 11 rfl rfl)
abbrev cJ5_hashCode : ByteArray := prog_26_method_78_code
def yJ5_hashCode : MethodName := ⟨RJ5, "hashCode", "()I"⟩
def dkwJ5_hashCode_2 : List UInt8 := [181, 0, 23, 167, 0, 8, 42, 27, 181, 0, 19, 27, 172]
abbrev dktJ5_hashCode_2 : List UInt8 := dkwJ5_hashCode_2 ++ []
def dkwJ5_hashCode_1 : List UInt8 := [180, 0, 9, 184, 2, 116, 167, 0, 10, 42, 180, 0, 9, 184, 2, 120, 60, 27, 154, 0, 11, 42, 4]
abbrev dktJ5_hashCode_1 : List UInt8 := dkwJ5_hashCode_1 ++ dktJ5_hashCode_2
def dkwJ5_hashCode_0 : List UInt8 := [42, 180, 0, 19, 60, 27, 154, 0, 52, 42, 180, 0, 23, 154, 0, 45, 42, 182, 1, 236, 153, 0, 13, 42]
abbrev dktJ5_hashCode_0 : List UInt8 := dkwJ5_hashCode_0 ++ dktJ5_hashCode_1
theorem dksJ5_hashCode_0 : cJ5_hashCode.data.toList.drop 0 = dktJ5_hashCode_0 := by decide +kernel
theorem dksJ5_hashCode_1 : cJ5_hashCode.data.toList.drop 24 = dktJ5_hashCode_1 := dk_seg dksJ5_hashCode_0 24 rfl rfl
theorem dksJ5_hashCode_2 : cJ5_hashCode.data.toList.drop 47 = dktJ5_hashCode_2 := dk_seg dksJ5_hashCode_1 23 rfl rfl
theorem dJ5_hashCode_0 : decode cJ5_hashCode 0 = .ok (.aload_n 0, 1) := dk_42 (dk_at dksJ5_hashCode_0 0 rfl rfl)
theorem dJ5_hashCode_1 : decode cJ5_hashCode 1 = .ok (.getfield 19, 3) := dk_180 0 19 (dk_at dksJ5_hashCode_0 1 rfl rfl)
theorem dJ5_hashCode_4 : decode cJ5_hashCode 4 = .ok (.istore_n 1, 1) := dk_60 (dk_at dksJ5_hashCode_0 4 rfl rfl)
theorem dJ5_hashCode_5 : decode cJ5_hashCode 5 = .ok (.iload_n 1, 1) := dk_27 (dk_at dksJ5_hashCode_0 5 rfl rfl)
theorem dJ5_hashCode_6 : decode cJ5_hashCode 6 = .ok (.ifCond .ne 52, 3) := dk_154 0 52 (dk_at dksJ5_hashCode_0 6 rfl rfl)
theorem dJ5_hashCode_9 : decode cJ5_hashCode 9 = .ok (.aload_n 0, 1) := dk_42 (dk_at dksJ5_hashCode_0 9 rfl rfl)
theorem dJ5_hashCode_10 : decode cJ5_hashCode 10 = .ok (.getfield 23, 3) := dk_180 0 23 (dk_at dksJ5_hashCode_0 10 rfl rfl)
theorem dJ5_hashCode_13 : decode cJ5_hashCode 13 = .ok (.ifCond .ne 45, 3) := dk_154 0 45 (dk_at dksJ5_hashCode_0 13 rfl rfl)
theorem dJ5_hashCode_16 : decode cJ5_hashCode 16 = .ok (.aload_n 0, 1) := dk_42 (dk_at dksJ5_hashCode_0 16 rfl rfl)
theorem dJ5_hashCode_17 : decode cJ5_hashCode 17 = .ok (.invokevirtual 492, 3) := dk_182 1 236 (dk_at dksJ5_hashCode_0 17 rfl rfl)
theorem dJ5_hashCode_20 : decode cJ5_hashCode 20 = .ok (.ifCond .eq 13, 3) := dk_153 0 13 (dk_at dksJ5_hashCode_0 20 rfl rfl)
theorem dJ5_hashCode_23 : decode cJ5_hashCode 23 = .ok (.aload_n 0, 1) := dk_42 (dk_at dksJ5_hashCode_0 23 rfl rfl)
theorem dJ5_hashCode_24 : decode cJ5_hashCode 24 = .ok (.getfield 9, 3) := dk_180 0 9 (dk_at dksJ5_hashCode_1 0 rfl rfl)
theorem dJ5_hashCode_27 : decode cJ5_hashCode 27 = .ok (.invokestatic 628, 3) := dk_184 2 116 (dk_at dksJ5_hashCode_1 3 rfl rfl)
theorem dJ5_hashCode_30 : decode cJ5_hashCode 30 = .ok (.goto 10, 3) := dk_167 0 10 (dk_at dksJ5_hashCode_1 6 rfl rfl)
theorem dJ5_hashCode_33 : decode cJ5_hashCode 33 = .ok (.aload_n 0, 1) := dk_42 (dk_at dksJ5_hashCode_1 9 rfl rfl)
theorem dJ5_hashCode_34 : decode cJ5_hashCode 34 = .ok (.getfield 9, 3) := dk_180 0 9 (dk_at dksJ5_hashCode_1 10 rfl rfl)
theorem dJ5_hashCode_37 : decode cJ5_hashCode 37 = .ok (.invokestatic 632, 3) := dk_184 2 120 (dk_at dksJ5_hashCode_1 13 rfl rfl)
theorem dJ5_hashCode_40 : decode cJ5_hashCode 40 = .ok (.istore_n 1, 1) := dk_60 (dk_at dksJ5_hashCode_1 16 rfl rfl)
theorem dJ5_hashCode_41 : decode cJ5_hashCode 41 = .ok (.iload_n 1, 1) := dk_27 (dk_at dksJ5_hashCode_1 17 rfl rfl)
theorem dJ5_hashCode_42 : decode cJ5_hashCode 42 = .ok (.ifCond .ne 11, 3) := dk_154 0 11 (dk_at dksJ5_hashCode_1 18 rfl rfl)
theorem dJ5_hashCode_45 : decode cJ5_hashCode 45 = .ok (.aload_n 0, 1) := dk_42 (dk_at dksJ5_hashCode_1 21 rfl rfl)
theorem dJ5_hashCode_46 : decode cJ5_hashCode 46 = .ok (.iconst 1, 1) := dk_4 (dk_at dksJ5_hashCode_1 22 rfl rfl)
theorem dJ5_hashCode_47 : decode cJ5_hashCode 47 = .ok (.putfield 23, 3) := dk_181 0 23 (dk_at dksJ5_hashCode_2 0 rfl rfl)
theorem dJ5_hashCode_50 : decode cJ5_hashCode 50 = .ok (.goto 8, 3) := dk_167 0 8 (dk_at dksJ5_hashCode_2 3 rfl rfl)
theorem dJ5_hashCode_53 : decode cJ5_hashCode 53 = .ok (.aload_n 0, 1) := dk_42 (dk_at dksJ5_hashCode_2 6 rfl rfl)
theorem dJ5_hashCode_54 : decode cJ5_hashCode 54 = .ok (.iload_n 1, 1) := dk_27 (dk_at dksJ5_hashCode_2 7 rfl rfl)
theorem dJ5_hashCode_55 : decode cJ5_hashCode 55 = .ok (.putfield 19, 3) := dk_181 0 19 (dk_at dksJ5_hashCode_2 8 rfl rfl)
theorem dJ5_hashCode_58 : decode cJ5_hashCode 58 = .ok (.iload_n 1, 1) := dk_27 (dk_at dksJ5_hashCode_2 11 rfl rfl)
theorem dJ5_hashCode_59 : decode cJ5_hashCode 59 = .ok (.ireturn, 1) := dk_172 (dk_at dksJ5_hashCode_2 12 rfl rfl)
theorem q45 : (Jvm.Cond.initialized "java/lang/String") ∈ lw_all := lw_g (lw_at lw_m1 6 rfl) rfl
theorem q151 : (Jvm.Cond.instantiable "java/lang/String" (4 : Nat)) ∈ lw_all := lw_g (lw_at lw_m1 112 rfl) rfl
theorem q153 : (Jvm.Cond.laysFinal "java/lang/String" "java/lang/String" "value" "[B") ∈ lw_all := lw_g (lw_at lw_m1 114 rfl) rfl
theorem q154 : (Jvm.Cond.soleField "java/lang/String" "value") ∈ lw_all := lw_g (lw_at lw_m1 115 rfl) rfl
theorem q155 : (Jvm.Cond.laysFinal "java/lang/String" "java/lang/String" "coder" "B") ∈ lw_all := lw_g (lw_at lw_m1 116 rfl) rfl
theorem q156 : (Jvm.Cond.soleField "java/lang/String" "coder") ∈ lw_all := lw_g (lw_at lw_m1 117 rfl) rfl
theorem q544 : (Jvm.Cond.laysStatic "java/lang/String" "COMPACT_STRINGS" "Z") ∈ lw_tbl := lw_at lw_m3 25 rfl
theorem q554 : (Jvm.Cond.fieldLink "java/lang/String" (1048 : Nat) "java/lang/AbstractStringBuilder" "maybeLatin1" "Z") ∈ lw_all := lw_g (lw_at lw_m3 35 rfl) rfl
theorem q617 : (Jvm.Cond.static ({ cls := "java/lang/String", name := "checkBoundsBeginEnd", desc := "(III)V" } : Jvm.MethodName)) ∈ lw_all := lw_g (lw_at lw_m3 98 rfl) rfl
theorem q618 : (Jvm.Cond.code ({ cls := "java/lang/String", name := "checkBoundsBeginEnd", desc := "(III)V" } : Jvm.MethodName) prog_26_method_158_code (3 : Nat) (Option.none : Option Jvm.ClassFile.FieldType)) ∈ lw_all := lw_g (lw_at lw_m3 99 rfl) rfl
theorem q619 : (Jvm.Cond.fieldLink "java/lang/String" (1053 : Nat) "jdk/internal/util/Preconditions" "SIOOBE_FORMATTER" "Ljava/util/function/BiFunction;") ∈ lw_all := lw_g (lw_at lw_m3 100 rfl) rfl
theorem q621 : (Jvm.Cond.methodLink "java/lang/String" (1062 : Nat) ({ cls := "jdk/internal/util/Preconditions", name := "checkFromToIndex", desc := "(IIILjava/util/function/BiFunction;)I" } : Jvm.MethodName)) ∈ lw_all := lw_g (lw_at lw_m3 102 rfl) rfl
theorem q632 : (Jvm.Cond.instanceMethod ({ cls := "java/lang/String", name := "length", desc := "()I" } : Jvm.MethodName)) ∈ lw_all := lw_g (lw_at lw_m3 113 rfl) rfl
theorem q633 : (Jvm.Cond.selects "java/lang/String" ({ cls := "java/lang/String", name := "length", desc := "()I" } : Jvm.MethodName) ({ cls := "java/lang/String", name := "length", desc := "()I" } : Jvm.MethodName)) ∈ lw_all := lw_g (lw_at lw_m3 114 rfl) rfl
theorem q634 : (Jvm.Cond.code ({ cls := "java/lang/String", name := "length", desc := "()I" } : Jvm.MethodName) prog_26_method_54_code (1 : Nat) (Option.some Jvm.ClassFile.FieldType.int)) ∈ lw_all := lw_g (lw_at lw_m3 115 rfl) rfl
theorem q635 : (Jvm.Cond.methodLink "java/lang/String" (335 : Nat) ({ cls := "java/lang/String", name := "coder", desc := "()B" } : Jvm.MethodName)) ∈ lw_all := lw_g (lw_at lw_m3 116 rfl) rfl
theorem q636 : (Jvm.Cond.instanceMethod ({ cls := "java/lang/String", name := "coder", desc := "()B" } : Jvm.MethodName)) ∈ lw_all := lw_g (lw_at lw_m3 117 rfl) rfl
theorem q637 : (Jvm.Cond.selects "java/lang/String" ({ cls := "java/lang/String", name := "coder", desc := "()B" } : Jvm.MethodName) ({ cls := "java/lang/String", name := "coder", desc := "()B" } : Jvm.MethodName)) ∈ lw_all := lw_g (lw_at lw_m3 118 rfl) rfl
theorem q638 : (Jvm.Cond.code ({ cls := "java/lang/String", name := "coder", desc := "()B" } : Jvm.MethodName) prog_26_method_152_code (1 : Nat) (Option.some Jvm.ClassFile.FieldType.byte)) ∈ lw_all := lw_g (lw_at lw_m3 119 rfl) rfl
theorem q639 : (Jvm.Cond.fieldLink "java/lang/String" (38 : Nat) "java/lang/String" "COMPACT_STRINGS" "Z") ∈ lw_all := lw_g (lw_at lw_m3 120 rfl) rfl
theorem q663 : (Jvm.Cond.static ({ cls := "java/lang/String", name := "checkBoundsOffCount", desc := "(III)I" } : Jvm.MethodName)) ∈ lw_all := lw_g (lw_at lw_m3 144 rfl) rfl
theorem q664 : (Jvm.Cond.code ({ cls := "java/lang/String", name := "checkBoundsOffCount", desc := "(III)I" } : Jvm.MethodName) prog_26_method_157_code (3 : Nat) (Option.some Jvm.ClassFile.FieldType.int)) ∈ lw_all := lw_g (lw_at lw_m3 145 rfl) rfl
theorem q665 : (Jvm.Cond.methodLink "java/lang/String" (1065 : Nat) ({ cls := "jdk/internal/util/Preconditions", name := "checkFromIndexSize", desc := "(IIILjava/util/function/BiFunction;)I" } : Jvm.MethodName)) ∈ lw_all := lw_g (lw_at lw_m3 146 rfl) rfl
theorem q669 : (Jvm.Cond.instanceMethod ({ cls := "java/lang/String", name := "getBytes", desc := "([BIB)V" } : Jvm.MethodName)) ∈ lw_all := lw_g (lw_at lw_m3 150 rfl) rfl
theorem q670 : (Jvm.Cond.selects "java/lang/String" ({ cls := "java/lang/String", name := "getBytes", desc := "([BIB)V" } : Jvm.MethodName) ({ cls := "java/lang/String", name := "getBytes", desc := "([BIB)V" } : Jvm.MethodName)) ∈ lw_all := lw_g (lw_at lw_m3 151 rfl) rfl
theorem q671 : (Jvm.Cond.code ({ cls := "java/lang/String", name := "getBytes", desc := "([BIB)V" } : Jvm.MethodName) prog_26_method_147_code (4 : Nat) (Option.none : Option Jvm.ClassFile.FieldType)) ∈ lw_all := lw_g (lw_at lw_m3 152 rfl) rfl
theorem q672 : (Jvm.Cond.methodLink "java/lang/String" (212 : Nat) ({ cls := "java/lang/System", name := "arraycopy", desc := "(Ljava/lang/Object;ILjava/lang/Object;II)V" } : Jvm.MethodName)) ∈ lw_all := lw_g (lw_at lw_m3 153 rfl) rfl
theorem q673 : (Jvm.Cond.methodLink "java/lang/String" (106 : Nat) ({ cls := "java/lang/StringLatin1", name := "inflate", desc := "([BI[BII)V" } : Jvm.MethodName)) ∈ lw_all := lw_g (lw_at lw_m3 154 rfl) rfl
theorem q705 : (Jvm.Cond.instanceMethod ({ cls := "java/lang/String", name := "<init>", desc := "(Ljava/lang/StringBuilder;)V" } : Jvm.MethodName)) ∈ lw_all := lw_g (lw_at lw_m3 186 rfl) rfl
theorem q706 : (Jvm.Cond.code ({ cls := "java/lang/String", name := "<init>", desc := "(Ljava/lang/StringBuilder;)V" } : Jvm.MethodName) prog_26_method_53_code (2 : Nat) (Option.none : Option Jvm.ClassFile.FieldType)) ∈ lw_all := lw_g (lw_at lw_m3 187 rfl) rfl
theorem q707 : (Jvm.Cond.methodLink "java/lang/String" (489 : Nat) ({ cls := "java/lang/String", name := "<init>", desc := "(Ljava/lang/AbstractStringBuilder;Ljava/lang/Void;)V" } : Jvm.MethodName)) ∈ lw_all := lw_g (lw_at lw_m3 188 rfl) rfl
theorem q708 : (Jvm.Cond.instanceMethod ({ cls := "java/lang/String", name := "<init>", desc := "(Ljava/lang/AbstractStringBuilder;Ljava/lang/Void;)V" } : Jvm.MethodName)) ∈ lw_all := lw_g (lw_at lw_m3 189 rfl) rfl
theorem q709 : (Jvm.Cond.code ({ cls := "java/lang/String", name := "<init>", desc := "(Ljava/lang/AbstractStringBuilder;Ljava/lang/Void;)V" } : Jvm.MethodName) prog_26_method_150_code (5 : Nat) (Option.none : Option Jvm.ClassFile.FieldType)) ∈ lw_all := lw_g (lw_at lw_m3 190 rfl) rfl
theorem q710 : (Jvm.Cond.methodLink "java/lang/String" (1 : Nat) ({ cls := "java/lang/Object", name := "<init>", desc := "()V" } : Jvm.MethodName)) ∈ lw_all := lw_g (lw_at lw_m3 191 rfl) rfl
theorem q711 : (Jvm.Cond.methodLink "java/lang/String" (552 : Nat) ({ cls := "java/lang/AbstractStringBuilder", name := "getValue", desc := "()[B" } : Jvm.MethodName)) ∈ lw_all := lw_g (lw_at lw_m3 192 rfl) rfl
theorem q716 : (Jvm.Cond.methodLink "java/lang/String" (549 : Nat) ({ cls := "java/lang/AbstractStringBuilder", name := "length", desc := "()I" } : Jvm.MethodName)) ∈ lw_all := lw_g (lw_at lw_m3 197 rfl) rfl
theorem q724 : (Jvm.Cond.methodLink "java/lang/String" (1047 : Nat) ({ cls := "java/lang/AbstractStringBuilder", name := "isLatin1", desc := "()Z" } : Jvm.MethodName)) ∈ lw_all := lw_g (lw_at lw_m3 205 rfl) rfl
theorem q725 : (Jvm.Cond.methodLink "java/lang/String" (54 : Nat) ({ cls := "java/util/Arrays", name := "copyOfRange", desc := "([BII)[B" } : Jvm.MethodName)) ∈ lw_all := lw_g (lw_at lw_m3 206 rfl) rfl
theorem q747 : (Jvm.Cond.methodLink "java/lang/String" (1051 : Nat) ({ cls := "java/lang/StringUTF16", name := "compress", desc := "([BII)[B" } : Jvm.MethodName)) ∈ lw_all := lw_g (lw_at lw_m3 228 rfl) rfl
theorem q757 : (Jvm.Cond.methodLink "java/lang/String" (47 : Nat) ({ cls := "java/lang/StringUTF16", name := "coderFromArrayLen", desc := "([BI)B" } : Jvm.MethodName)) ∈ lw_all := lw_g (lw_at lw_m3 238 rfl) rfl
theorem q760 : (Jvm.Cond.fieldLink "java/lang/String" (9 : Nat) "java/lang/String" "value" "[B") ∈ lw_all := lw_g (lw_at lw_m4 1 rfl) rfl
theorem q761 : (Jvm.Cond.fieldLink "java/lang/String" (15 : Nat) "java/lang/String" "coder" "B") ∈ lw_all := lw_g (lw_at lw_m4 2 rfl) rfl
theorem q762 : (Jvm.Cond.fieldLink "java/lang/String" (19 : Nat) "java/lang/String" "hash" "I") ∈ lw_all := lw_g (lw_at lw_m4 3 rfl) rfl
theorem q763 : (Jvm.Cond.fieldLink "java/lang/String" (23 : Nat) "java/lang/String" "hashIsZero" "Z") ∈ lw_all := lw_g (lw_at lw_m4 4 rfl) rfl
theorem q764 : (Jvm.Cond.lays "java/lang/String" "java/lang/String" "hash" "I") ∈ lw_all := lw_g (lw_at lw_m4 5 rfl) rfl
theorem q765 : (Jvm.Cond.soleField "java/lang/String" "hash") ∈ lw_all := lw_g (lw_at lw_m4 6 rfl) rfl
theorem q766 : (Jvm.Cond.lays "java/lang/String" "java/lang/String" "hashIsZero" "Z") ∈ lw_all := lw_g (lw_at lw_m4 7 rfl) rfl
theorem q767 : (Jvm.Cond.soleField "java/lang/String" "hashIsZero") ∈ lw_all := lw_g (lw_at lw_m4 8 rfl) rfl
theorem q768 : (Jvm.Cond.superclass "java/lang/String" "java/lang/Object") ∈ lw_all := lw_g (lw_at lw_m4 9 rfl) rfl
theorem q1000 : (Jvm.Cond.static ({ cls := "java/lang/String", name := "checkIndex", desc := "(II)V" } : Jvm.MethodName)) ∈ lw_all := lw_g (lw_at lw_m5 1 rfl) rfl
theorem q1001 : (Jvm.Cond.code ({ cls := "java/lang/String", name := "checkIndex", desc := "(II)V" } : Jvm.MethodName) prog_26_method_155_code (2 : Nat) (Option.none : Option Jvm.ClassFile.FieldType)) ∈ lw_all := lw_g (lw_at lw_m5 2 rfl) rfl
theorem q1002 : (Jvm.Cond.methodLink "java/lang/String" (1059 : Nat) ({ cls := "jdk/internal/util/Preconditions", name := "checkIndex", desc := "(IILjava/util/function/BiFunction;)I" } : Jvm.MethodName)) ∈ lw_all := lw_g (lw_at lw_m5 3 rfl) rfl
theorem q1037 : (Jvm.Cond.instanceMethod ({ cls := "java/lang/String", name := "indexOf", desc := "(II)I" } : Jvm.MethodName)) ∈ lw_all := lw_g (lw_at lw_m5 38 rfl) rfl
theorem q1038 : (Jvm.Cond.selects "java/lang/String" ({ cls := "java/lang/String", name := "indexOf", desc := "(II)I" } : Jvm.MethodName) ({ cls := "java/lang/String", name := "indexOf", desc := "(II)I" } : Jvm.MethodName)) ∈ lw_all := lw_g (lw_at lw_m5 39 rfl) rfl
theorem q1039 : (Jvm.Cond.code ({ cls := "java/lang/String", name := "indexOf", desc := "(II)I" } : Jvm.MethodName) prog_26_method_80_code (3 : Nat) (Option.some Jvm.ClassFile.FieldType.int)) ∈ lw_all := lw_g (lw_at lw_m5 40 rfl) rfl
theorem q1040 : (Jvm.Cond.methodLink "java/lang/String" (492 : Nat) ({ cls := "java/lang/String", name := "isLatin1", desc := "()Z" } : Jvm.MethodName)) ∈ lw_all := lw_g (lw_at lw_m5 41 rfl) rfl
theorem q1041 : (Jvm.Cond.instanceMethod ({ cls := "java/lang/String", name := "isLatin1", desc := "()Z" } : Jvm.MethodName)) ∈ lw_all := lw_g (lw_at lw_m5 42 rfl) rfl
theorem q1042 : (Jvm.Cond.selects "java/lang/String" ({ cls := "java/lang/String", name := "isLatin1", desc := "()Z" } : Jvm.MethodName) ({ cls := "java/lang/String", name := "isLatin1", desc := "()Z" } : Jvm.MethodName)) ∈ lw_all := lw_g (lw_at lw_m5 43 rfl) rfl
theorem q1043 : (Jvm.Cond.code ({ cls := "java/lang/String", name := "isLatin1", desc := "()Z" } : Jvm.MethodName) prog_26_method_154_code (1 : Nat) (Option.some Jvm.ClassFile.FieldType.boolean)) ∈ lw_all := lw_g (lw_at lw_m5 44 rfl) rfl
theorem q1044 : (Jvm.Cond.methodLink "java/lang/String" (505 : Nat) ({ cls := "java/lang/String", name := "length", desc := "()I" } : Jvm.MethodName)) ∈ lw_all := lw_g (lw_at lw_m5 45 rfl) rfl
theorem q1045 : (Jvm.Cond.methodLink "java/lang/String" (637 : Nat) ({ cls := "java/lang/StringLatin1", name := "indexOf", desc := "([BIII)I" } : Jvm.MethodName)) ∈ lw_all := lw_g (lw_at lw_m5 46 rfl) rfl
theorem q1056 : (Jvm.Cond.methodLink "java/lang/String" (640 : Nat) ({ cls := "java/lang/StringUTF16", name := "indexOf", desc := "([BIII)I" } : Jvm.MethodName)) ∈ lw_all := lw_g (lw_at lw_m5 57 rfl) rfl
theorem q1083 : (Jvm.Cond.instanceMethod ({ cls := "java/lang/String", name := "substring", desc := "(I)Ljava/lang/String;" } : Jvm.MethodName)) ∈ lw_all := lw_g (lw_at lw_m5 84 rfl) rfl
theorem q1084 : (Jvm.Cond.selects "java/lang/String" ({ cls := "java/lang/String", name := "substring", desc := "(I)Ljava/lang/String;" } : Jvm.MethodName) ({ cls := "java/lang/String", name := "substring", desc := "(I)Ljava/lang/String;" } : Jvm.MethodName)) ∈ lw_all := lw_g (lw_at lw_m5 85 rfl) rfl
theorem q1085 : (Jvm.Cond.code ({ cls := "java/lang/String", name := "substring", desc := "(I)Ljava/lang/String;" } : Jvm.MethodName) prog_26_method_91_code (2 : Nat) (Option.some (Jvm.ClassFile.FieldType.object "java/lang/String"))) ∈ lw_all := lw_g (lw_at lw_m5 86 rfl) rfl
theorem q1086 : (Jvm.Cond.methodLink "java/lang/String" (681 : Nat) ({ cls := "java/lang/String", name := "substring", desc := "(II)Ljava/lang/String;" } : Jvm.MethodName)) ∈ lw_all := lw_g (lw_at lw_m5 87 rfl) rfl
theorem q1087 : (Jvm.Cond.instanceMethod ({ cls := "java/lang/String", name := "substring", desc := "(II)Ljava/lang/String;" } : Jvm.MethodName)) ∈ lw_all := lw_g (lw_at lw_m5 88 rfl) rfl
theorem q1088 : (Jvm.Cond.selects "java/lang/String" ({ cls := "java/lang/String", name := "substring", desc := "(II)Ljava/lang/String;" } : Jvm.MethodName) ({ cls := "java/lang/String", name := "substring", desc := "(II)Ljava/lang/String;" } : Jvm.MethodName)) ∈ lw_all := lw_g (lw_at lw_m5 89 rfl) rfl
theorem q1089 : (Jvm.Cond.code ({ cls := "java/lang/String", name := "substring", desc := "(II)Ljava/lang/String;" } : Jvm.MethodName) prog_26_method_92_code (5 : Nat) (Option.some (Jvm.ClassFile.FieldType.object "java/lang/String"))) ∈ lw_all := lw_g (lw_at lw_m5 90 rfl) rfl
theorem q1090 : (Jvm.Cond.methodLink "java/lang/String" (521 : Nat) ({ cls := "java/lang/String", name := "checkBoundsBeginEnd", desc := "(III)V" } : Jvm.MethodName)) ∈ lw_all := lw_g (lw_at lw_m5 91 rfl) rfl
theorem q1091 : (Jvm.Cond.methodLink "java/lang/String" (685 : Nat) ({ cls := "java/lang/StringLatin1", name := "newString", desc := "([BII)Ljava/lang/String;" } : Jvm.MethodName)) ∈ lw_all := lw_g (lw_at lw_m5 92 rfl) rfl
theorem q1098 : (Jvm.Cond.instanceMethod ({ cls := "java/lang/String", name := "<init>", desc := "([BB)V" } : Jvm.MethodName)) ∈ lw_all := lw_g (lw_at lw_m5 99 rfl) rfl
theorem q1099 : (Jvm.Cond.code ({ cls := "java/lang/String", name := "<init>", desc := "([BB)V" } : Jvm.MethodName) prog_26_method_151_code (3 : Nat) (Option.none : Option Jvm.ClassFile.FieldType)) ∈ lw_all := lw_g (lw_at lw_m5 100 rfl) rfl
theorem q1100 : (Jvm.Cond.methodLink "java/lang/String" (689 : Nat) ({ cls := "java/lang/StringUTF16", name := "newString", desc := "([BII)Ljava/lang/String;" } : Jvm.MethodName)) ∈ lw_all := lw_g (lw_at lw_m5 101 rfl) rfl
theorem q1145 : (Jvm.Cond.instanceMethod ({ cls := "java/lang/String", name := "charAt", desc := "(I)C" } : Jvm.MethodName)) ∈ lw_all := lw_g (lw_at lw_m5 146 rfl) rfl
theorem q1146 : (Jvm.Cond.selects "java/lang/String" ({ cls := "java/lang/String", name := "charAt", desc := "(I)C" } : Jvm.MethodName) ({ cls := "java/lang/String", name := "charAt", desc := "(I)C" } : Jvm.MethodName)) ∈ lw_all := lw_g (lw_at lw_m5 147 rfl) rfl
theorem q1147 : (Jvm.Cond.code ({ cls := "java/lang/String", name := "charAt", desc := "(I)C" } : Jvm.MethodName) prog_26_method_56_code (2 : Nat) (Option.some Jvm.ClassFile.FieldType.char)) ∈ lw_all := lw_g (lw_at lw_m5 148 rfl) rfl
theorem q1148 : (Jvm.Cond.methodLink "java/lang/String" (495 : Nat) ({ cls := "java/lang/StringLatin1", name := "charAt", desc := "([BI)C" } : Jvm.MethodName)) ∈ lw_all := lw_g (lw_at lw_m5 149 rfl) rfl
theorem q1152 : (Jvm.Cond.methodLink "java/lang/String" (498 : Nat) ({ cls := "java/lang/StringUTF16", name := "charAt", desc := "([BI)C" } : Jvm.MethodName)) ∈ lw_all := lw_g (lw_at lw_m5 153 rfl) rfl
theorem q1441 : (Jvm.Cond.selects "java/lang/String" ({ cls := "java/lang/Object", name := "equals", desc := "(Ljava/lang/Object;)Z" } : Jvm.MethodName) ({ cls := "java/lang/String", name := "equals", desc := "(Ljava/lang/Object;)Z" } : Jvm.MethodName)) ∈ lw_all := lw_g (lw_at lw_m6 202 rfl) rfl
theorem q1442 : (Jvm.Cond.instanceMethod ({ cls := "java/lang/String", name := "equals", desc := "(Ljava/lang/Object;)Z" } : Jvm.MethodName)) ∈ lw_all := lw_g (lw_at lw_m6 203 rfl) rfl
theorem q1443 : (Jvm.Cond.code ({ cls := "java/lang/String", name := "equals", desc := "(Ljava/lang/Object;)Z" } : Jvm.MethodName) prog_26_method_66_code (3 : Nat) (Option.some Jvm.ClassFile.FieldType.boolean)) ∈ lw_all := lw_g (lw_at lw_m6 204 rfl) rfl
theorem q1444 : (Jvm.Cond.classLink "java/lang/String" (10 : Nat) "java/lang/String") ∈ lw_all := lw_g (lw_at lw_m6 205 rfl) rfl
theorem q1445 : (Jvm.Cond.methodLink "java/lang/String" (541 : Nat) ({ cls := "java/lang/StringLatin1", name := "equals", desc := "([B[B)Z" } : Jvm.MethodName)) ∈ lw_all := lw_g (lw_at lw_m6 206 rfl) rfl
theorem q1610 : (Jvm.Cond.instanceMethod ({ cls := "java/lang/String", name := "hashCode", desc := "()I" } : Jvm.MethodName)) ∈ lw_all := lw_g (lw_at lw_m7 131 rfl) rfl
theorem q1611 : (Jvm.Cond.selects "java/lang/String" ({ cls := "java/lang/String", name := "hashCode", desc := "()I" } : Jvm.MethodName) ({ cls := "java/lang/String", name := "hashCode", desc := "()I" } : Jvm.MethodName)) ∈ lw_all := lw_g (lw_at lw_m7 132 rfl) rfl
theorem q1612 : (Jvm.Cond.code ({ cls := "java/lang/String", name := "hashCode", desc := "()I" } : Jvm.MethodName) prog_26_method_78_code (2 : Nat) (Option.some Jvm.ClassFile.FieldType.int)) ∈ lw_all := lw_g (lw_at lw_m7 133 rfl) rfl
theorem q1613 : (Jvm.Cond.methodLink "java/lang/String" (628 : Nat) ({ cls := "java/lang/StringLatin1", name := "hashCode", desc := "([B)I" } : Jvm.MethodName)) ∈ lw_all := lw_g (lw_at lw_m7 134 rfl) rfl
theorem q1662 : (Jvm.Cond.methodLink "java/lang/String" (632 : Nat) ({ cls := "java/lang/StringUTF16", name := "hashCode", desc := "([B)I" } : Jvm.MethodName)) ∈ lw_all := lw_g (lw_at lw_m7 183 rfl) rfl
theorem q1784 : (Jvm.Cond.selects "java/lang/String" ({ cls := "java/lang/String", name := "equals", desc := "(Ljava/lang/Object;)Z" } : Jvm.MethodName) ({ cls := "java/lang/String", name := "equals", desc := "(Ljava/lang/Object;)Z" } : Jvm.MethodName)) ∈ lw_all := lw_g (lw_at lw_m8 65 rfl) rfl
theorem in_J5 : ∀ w ∈ wsJ50, w ∈ lw_all := lw_in wsJ50 [153, 155, 764, 766] (by decide +kernel) (by decide +kernel)
/-! java/lang/StrictMath -/
set_option maxRecDepth 100000
def RJ6 : String := "java/lang/StrictMath"
abbrev cJ6_sin : ByteArray := prog_25_method_2_code
def yJ6_sin : MethodName := ⟨RJ6, "sin", "(D)D"⟩
theorem dJ6_sin_0 : decode cJ6_sin 0 = .ok (.dload_n 0, 1) := by decide +kernel
theorem dJ6_sin_1 : decode cJ6_sin 1 = .ok (.invokestatic 9, 3) := by decide +kernel
theorem dJ6_sin_4 : decode cJ6_sin 4 = .ok (.dreturn, 1) := by decide +kernel
abbrev cJ6_floor : ByteArray := prog_25_method_17_code
def yJ6_floor : MethodName := ⟨RJ6, "floor", "(D)D"⟩
def dkwJ6_floor_0 : List UInt8 := [38, 20, 0, 64, 14, 20, 0, 64, 184, 0, 60, 175]
abbrev dktJ6_floor_0 : List UInt8 := dkwJ6_floor_0 ++ []
theorem dksJ6_floor_0 : cJ6_floor.data.toList.drop 0 = dktJ6_floor_0 := by decide +kernel
theorem dJ6_floor_0 : decode cJ6_floor 0 = .ok (.dload_n 0, 1) := dk_38 (dk_at dksJ6_floor_0 0 rfl rfl)
theorem dJ6_floor_1 : decode cJ6_floor 1 = .ok (.ldc2_w 64, 3) := dk_20 0 64 (dk_at dksJ6_floor_0 1 rfl rfl)
theorem dJ6_floor_4 : decode cJ6_floor 4 = .ok (.dconst 0, 1) := dk_14 (dk_at dksJ6_floor_0 4 rfl rfl)
theorem dJ6_floor_5 : decode cJ6_floor 5 = .ok (.ldc2_w 64, 3) := dk_20 0 64 (dk_at dksJ6_floor_0 5 rfl rfl)
theorem dJ6_floor_8 : decode cJ6_floor 8 = .ok (.invokestatic 60, 3) := dk_184 0 60 (dk_at dksJ6_floor_0 8 rfl rfl)
theorem dJ6_floor_11 : decode cJ6_floor 11 = .ok (.dreturn, 1) := dk_175 (dk_at dksJ6_floor_0 11 rfl rfl)
abbrev cJ6_floorOrCeil : ByteArray := prog_25_method_18_code
def yJ6_floorOrCeil : MethodName := ⟨RJ6, "floorOrCeil", "(DDDD)D"⟩
def dkwJ6_floorOrCeil_5 : List UInt8 := [24, 13, 24, 6, 99, 57, 13, 24, 13, 175]
abbrev dktJ6_floorOrCeil_5 : List UInt8 := dkwJ6_floorOrCeil_5 ++ []
def dkwJ6_floorOrCeil_4 : List UInt8 := [175, 22, 9, 22, 11, 20, 0, 87, 131, 127, 184, 0, 89, 57, 13, 24, 6, 38, 107, 14, 151, 158, 0, 10]
abbrev dktJ6_floorOrCeil_4 : List UInt8 := dkwJ6_floorOrCeil_4 ++ dktJ6_floorOrCeil_5
def dkwJ6_floorOrCeil_3 : List UInt8 := [184, 0, 77, 55, 9, 20, 0, 85, 21, 8, 123, 55, 11, 22, 11, 22, 9, 127, 9, 148, 154, 0, 5, 38]
abbrev dktJ6_floorOrCeil_3 : List UInt8 := dkwJ6_floorOrCeil_3 ++ dktJ6_floorOrCeil_4
def dkwJ6_floorOrCeil_2 : List UInt8 := [154, 0, 23, 21, 8, 155, 0, 10, 21, 8, 16, 51, 164, 0, 11, 187, 0, 74, 89, 183, 0, 76, 191, 38]
abbrev dktJ6_floorOrCeil_2 : List UInt8 := dkwJ6_floorOrCeil_2 ++ dktJ6_floorOrCeil_3
def dkwJ6_floorOrCeil_1 : List UInt8 := [156, 0, 7, 40, 167, 0, 5, 24, 4, 175, 21, 8, 16, 52, 161, 0, 5, 38, 175, 178, 0, 70]
abbrev dktJ6_floorOrCeil_1 : List UInt8 := dkwJ6_floorOrCeil_1 ++ dktJ6_floorOrCeil_2
def dkwJ6_floorOrCeil_0 : List UInt8 := [38, 184, 0, 66, 54, 8, 21, 8, 156, 0, 26, 38, 14, 151, 154, 0, 7, 38, 167, 0, 15, 38, 14, 152]
abbrev dktJ6_floorOrCeil_0 : List UInt8 := dkwJ6_floorOrCeil_0 ++ dktJ6_floorOrCeil_1
theorem dksJ6_floorOrCeil_0 : cJ6_floorOrCeil.data.toList.drop 0 = dktJ6_floorOrCeil_0 := by decide +kernel
theorem dksJ6_floorOrCeil_1 : cJ6_floorOrCeil.data.toList.drop 24 = dktJ6_floorOrCeil_1 := dk_seg dksJ6_floorOrCeil_0 24 rfl rfl
theorem dksJ6_floorOrCeil_2 : cJ6_floorOrCeil.data.toList.drop 46 = dktJ6_floorOrCeil_2 := dk_seg dksJ6_floorOrCeil_1 22 rfl rfl
theorem dksJ6_floorOrCeil_3 : cJ6_floorOrCeil.data.toList.drop 70 = dktJ6_floorOrCeil_3 := dk_seg dksJ6_floorOrCeil_2 24 rfl rfl
theorem dksJ6_floorOrCeil_4 : cJ6_floorOrCeil.data.toList.drop 94 = dktJ6_floorOrCeil_4 := dk_seg dksJ6_floorOrCeil_3 24 rfl rfl
theorem dksJ6_floorOrCeil_5 : cJ6_floorOrCeil.data.toList.drop 118 = dktJ6_floorOrCeil_5 := dk_seg dksJ6_floorOrCeil_4 24 rfl rfl
theorem dJ6_floorOrCeil_0 : decode cJ6_floorOrCeil 0 = .ok (.dload_n 0, 1) := dk_38 (dk_at dksJ6_floorOrCeil_0 0 rfl rfl)
theorem dJ6_floorOrCeil_1 : decode cJ6_floorOrCeil 1 = .ok (.invokestatic 66, 3) := dk_184 0 66 (dk_at dksJ6_floorOrCeil_0 1 rfl rfl)
theorem dJ6_floorOrCeil_4 : decode cJ6_floorOrCeil 4 = .ok (.istore 8, 2) := dk_54 8 (dk_at dksJ6_floorOrCeil_0 4 rfl rfl)
theorem dJ6_floorOrCeil_6 : decode cJ6_floorOrCeil 6 = .ok (.iload 8, 2) := dk_21 8 (dk_at dksJ6_floorOrCeil_0 6 rfl rfl)
theorem dJ6_floorOrCeil_8 : decode cJ6_floorOrCeil 8 = .ok (.ifCond .ge 26, 3) := dk_156 0 26 (dk_at dksJ6_floorOrCeil_0 8 rfl rfl)
theorem dJ6_floorOrCeil_11 : decode cJ6_floorOrCeil 11 = .ok (.dload_n 0, 1) := dk_38 (dk_at dksJ6_floorOrCeil_0 11 rfl rfl)
theorem dJ6_floorOrCeil_12 : decode cJ6_floorOrCeil 12 = .ok (.dconst 0, 1) := dk_14 (dk_at dksJ6_floorOrCeil_0 12 rfl rfl)
theorem dJ6_floorOrCeil_13 : decode cJ6_floorOrCeil 13 = .ok (.dcmp .l, 1) := dk_151 (dk_at dksJ6_floorOrCeil_0 13 rfl rfl)
theorem dJ6_floorOrCeil_14 : decode cJ6_floorOrCeil 14 = .ok (.ifCond .ne 7, 3) := dk_154 0 7 (dk_at dksJ6_floorOrCeil_0 14 rfl rfl)
theorem dJ6_floorOrCeil_17 : decode cJ6_floorOrCeil 17 = .ok (.dload_n 0, 1) := dk_38 (dk_at dksJ6_floorOrCeil_0 17 rfl rfl)
theorem dJ6_floorOrCeil_18 : decode cJ6_floorOrCeil 18 = .ok (.goto 15, 3) := dk_167 0 15 (dk_at dksJ6_floorOrCeil_0 18 rfl rfl)
theorem dJ6_floorOrCeil_21 : decode cJ6_floorOrCeil 21 = .ok (.dload_n 0, 1) := dk_38 (dk_at dksJ6_floorOrCeil_0 21 rfl rfl)
theorem dJ6_floorOrCeil_22 : decode cJ6_floorOrCeil 22 = .ok (.dconst 0, 1) := dk_14 (dk_at dksJ6_floorOrCeil_0 22 rfl rfl)
theorem dJ6_floorOrCeil_23 : decode cJ6_floorOrCeil 23 = .ok (.dcmp .g, 1) := dk_152 (dk_at dksJ6_floorOrCeil_0 23 rfl rfl)
theorem dJ6_floorOrCeil_24 : decode cJ6_floorOrCeil 24 = .ok (.ifCond .ge 7, 3) := dk_156 0 7 (dk_at dksJ6_floorOrCeil_1 0 rfl rfl)
theorem dJ6_floorOrCeil_27 : decode cJ6_floorOrCeil 27 = .ok (.dload_n 2, 1) := dk_40 (dk_at dksJ6_floorOrCeil_1 3 rfl rfl)
theorem dJ6_floorOrCeil_28 : decode cJ6_floorOrCeil 28 = .ok (.goto 5, 3) := dk_167 0 5 (dk_at dksJ6_floorOrCeil_1 4 rfl rfl)
theorem dJ6_floorOrCeil_31 : decode cJ6_floorOrCeil 31 = .ok (.dload 4, 2) := dk_24 4 (dk_at dksJ6_floorOrCeil_1 7 rfl rfl)
theorem dJ6_floorOrCeil_33 : decode cJ6_floorOrCeil 33 = .ok (.dreturn, 1) := dk_175 (dk_at dksJ6_floorOrCeil_1 9 rfl rfl)
theorem dJ6_floorOrCeil_34 : decode cJ6_floorOrCeil 34 = .ok (.iload 8, 2) := dk_21 8 (dk_at dksJ6_floorOrCeil_1 10 rfl rfl)
theorem dJ6_floorOrCeil_36 : decode cJ6_floorOrCeil 36 = .ok (.bipush 52, 2) := dk_16 52 (dk_at dksJ6_floorOrCeil_1 12 rfl rfl)
theorem dJ6_floorOrCeil_38 : decode cJ6_floorOrCeil 38 = .ok (.if_icmp .lt 5, 3) := dk_161 0 5 (dk_at dksJ6_floorOrCeil_1 14 rfl rfl)
theorem dJ6_floorOrCeil_41 : decode cJ6_floorOrCeil 41 = .ok (.dload_n 0, 1) := dk_38 (dk_at dksJ6_floorOrCeil_1 17 rfl rfl)
theorem dJ6_floorOrCeil_42 : decode cJ6_floorOrCeil 42 = .ok (.dreturn, 1) := dk_175 (dk_at dksJ6_floorOrCeil_1 18 rfl rfl)
theorem dJ6_floorOrCeil_43 : decode cJ6_floorOrCeil 43 = .ok (.getstatic 70, 3) := dk_178 0 70 (dk_at dksJ6_floorOrCeil_1 19 rfl rfl)
theorem dJ6_floorOrCeil_46 : decode cJ6_floorOrCeil 46 = .ok (.ifCond .ne 23, 3) := dk_154 0 23 (dk_at dksJ6_floorOrCeil_2 0 rfl rfl)
theorem dJ6_floorOrCeil_49 : decode cJ6_floorOrCeil 49 = .ok (.iload 8, 2) := dk_21 8 (dk_at dksJ6_floorOrCeil_2 3 rfl rfl)
theorem dJ6_floorOrCeil_51 : decode cJ6_floorOrCeil 51 = .ok (.ifCond .lt 10, 3) := dk_155 0 10 (dk_at dksJ6_floorOrCeil_2 5 rfl rfl)
theorem dJ6_floorOrCeil_54 : decode cJ6_floorOrCeil 54 = .ok (.iload 8, 2) := dk_21 8 (dk_at dksJ6_floorOrCeil_2 8 rfl rfl)
theorem dJ6_floorOrCeil_56 : decode cJ6_floorOrCeil 56 = .ok (.bipush 51, 2) := dk_16 51 (dk_at dksJ6_floorOrCeil_2 10 rfl rfl)
theorem dJ6_floorOrCeil_58 : decode cJ6_floorOrCeil 58 = .ok (.if_icmp .le 11, 3) := dk_164 0 11 (dk_at dksJ6_floorOrCeil_2 12 rfl rfl)
theorem dJ6_floorOrCeil_61 : decode cJ6_floorOrCeil 61 = .ok (.new 74, 3) := dk_187 0 74 (dk_at dksJ6_floorOrCeil_2 15 rfl rfl)
theorem dJ6_floorOrCeil_64 : decode cJ6_floorOrCeil 64 = .ok (.dup, 1) := dk_89 (dk_at dksJ6_floorOrCeil_2 18 rfl rfl)
theorem dJ6_floorOrCeil_65 : decode cJ6_floorOrCeil 65 = .ok (.invokespecial 76, 3) := dk_183 0 76 (dk_at dksJ6_floorOrCeil_2 19 rfl rfl)
theorem dJ6_floorOrCeil_68 : decode cJ6_floorOrCeil 68 = .ok (.athrow, 1) := dk_191 (dk_at dksJ6_floorOrCeil_2 22 rfl rfl)
theorem dJ6_floorOrCeil_69 : decode cJ6_floorOrCeil 69 = .ok (.dload_n 0, 1) := dk_38 (dk_at dksJ6_floorOrCeil_2 23 rfl rfl)
theorem dJ6_floorOrCeil_70 : decode cJ6_floorOrCeil 70 = .ok (.invokestatic 77, 3) := dk_184 0 77 (dk_at dksJ6_floorOrCeil_3 0 rfl rfl)
theorem dJ6_floorOrCeil_73 : decode cJ6_floorOrCeil 73 = .ok (.lstore 9, 2) := dk_55 9 (dk_at dksJ6_floorOrCeil_3 3 rfl rfl)
theorem dJ6_floorOrCeil_75 : decode cJ6_floorOrCeil 75 = .ok (.ldc2_w 85, 3) := dk_20 0 85 (dk_at dksJ6_floorOrCeil_3 5 rfl rfl)
theorem dJ6_floorOrCeil_78 : decode cJ6_floorOrCeil 78 = .ok (.iload 8, 2) := dk_21 8 (dk_at dksJ6_floorOrCeil_3 8 rfl rfl)
theorem dJ6_floorOrCeil_80 : decode cJ6_floorOrCeil 80 = .ok (.lshr, 1) := dk_123 (dk_at dksJ6_floorOrCeil_3 10 rfl rfl)
theorem dJ6_floorOrCeil_81 : decode cJ6_floorOrCeil 81 = .ok (.lstore 11, 2) := dk_55 11 (dk_at dksJ6_floorOrCeil_3 11 rfl rfl)
theorem dJ6_floorOrCeil_83 : decode cJ6_floorOrCeil 83 = .ok (.lload 11, 2) := dk_22 11 (dk_at dksJ6_floorOrCeil_3 13 rfl rfl)
theorem dJ6_floorOrCeil_85 : decode cJ6_floorOrCeil 85 = .ok (.lload 9, 2) := dk_22 9 (dk_at dksJ6_floorOrCeil_3 15 rfl rfl)
theorem dJ6_floorOrCeil_87 : decode cJ6_floorOrCeil 87 = .ok (.land, 1) := dk_127 (dk_at dksJ6_floorOrCeil_3 17 rfl rfl)
theorem dJ6_floorOrCeil_88 : decode cJ6_floorOrCeil 88 = .ok (.lconst 0, 1) := dk_9 (dk_at dksJ6_floorOrCeil_3 18 rfl rfl)
theorem dJ6_floorOrCeil_89 : decode cJ6_floorOrCeil 89 = .ok (.lcmp, 1) := dk_148 (dk_at dksJ6_floorOrCeil_3 19 rfl rfl)
theorem dJ6_floorOrCeil_90 : decode cJ6_floorOrCeil 90 = .ok (.ifCond .ne 5, 3) := dk_154 0 5 (dk_at dksJ6_floorOrCeil_3 20 rfl rfl)
theorem dJ6_floorOrCeil_93 : decode cJ6_floorOrCeil 93 = .ok (.dload_n 0, 1) := dk_38 (dk_at dksJ6_floorOrCeil_3 23 rfl rfl)
theorem dJ6_floorOrCeil_94 : decode cJ6_floorOrCeil 94 = .ok (.dreturn, 1) := dk_175 (dk_at dksJ6_floorOrCeil_4 0 rfl rfl)
theorem dJ6_floorOrCeil_95 : decode cJ6_floorOrCeil 95 = .ok (.lload 9, 2) := dk_22 9 (dk_at dksJ6_floorOrCeil_4 1 rfl rfl)
theorem dJ6_floorOrCeil_97 : decode cJ6_floorOrCeil 97 = .ok (.lload 11, 2) := dk_22 11 (dk_at dksJ6_floorOrCeil_4 3 rfl rfl)
theorem dJ6_floorOrCeil_99 : decode cJ6_floorOrCeil 99 = .ok (.ldc2_w 87, 3) := dk_20 0 87 (dk_at dksJ6_floorOrCeil_4 5 rfl rfl)
theorem dJ6_floorOrCeil_102 : decode cJ6_floorOrCeil 102 = .ok (.lxor, 1) := dk_131 (dk_at dksJ6_floorOrCeil_4 8 rfl rfl)
theorem dJ6_floorOrCeil_103 : decode cJ6_floorOrCeil 103 = .ok (.land, 1) := dk_127 (dk_at dksJ6_floorOrCeil_4 9 rfl rfl)
theorem dJ6_floorOrCeil_104 : decode cJ6_floorOrCeil 104 = .ok (.invokestatic 89, 3) := dk_184 0 89 (dk_at dksJ6_floorOrCeil_4 10 rfl rfl)
theorem dJ6_floorOrCeil_107 : decode cJ6_floorOrCeil 107 = .ok (.dstore 13, 2) := dk_57 13 (dk_at dksJ6_floorOrCeil_4 13 rfl rfl)
theorem dJ6_floorOrCeil_109 : decode cJ6_floorOrCeil 109 = .ok (.dload 6, 2) := dk_24 6 (dk_at dksJ6_floorOrCeil_4 15 rfl rfl)
theorem dJ6_floorOrCeil_111 : decode cJ6_floorOrCeil 111 = .ok (.dload_n 0, 1) := dk_38 (dk_at dksJ6_floorOrCeil_4 17 rfl rfl)
theorem dJ6_floorOrCeil_112 : decode cJ6_floorOrCeil 112 = .ok (.dmul, 1) := dk_107 (dk_at dksJ6_floorOrCeil_4 18 rfl rfl)
theorem dJ6_floorOrCeil_113 : decode cJ6_floorOrCeil 113 = .ok (.dconst 0, 1) := dk_14 (dk_at dksJ6_floorOrCeil_4 19 rfl rfl)
theorem dJ6_floorOrCeil_114 : decode cJ6_floorOrCeil 114 = .ok (.dcmp .l, 1) := dk_151 (dk_at dksJ6_floorOrCeil_4 20 rfl rfl)
theorem dJ6_floorOrCeil_115 : decode cJ6_floorOrCeil 115 = .ok (.ifCond .le 10, 3) := dk_158 0 10 (dk_at dksJ6_floorOrCeil_4 21 rfl rfl)
theorem dJ6_floorOrCeil_118 : decode cJ6_floorOrCeil 118 = .ok (.dload 13, 2) := dk_24 13 (dk_at dksJ6_floorOrCeil_5 0 rfl rfl)
theorem dJ6_floorOrCeil_120 : decode cJ6_floorOrCeil 120 = .ok (.dload 6, 2) := dk_24 6 (dk_at dksJ6_floorOrCeil_5 2 rfl rfl)
theorem dJ6_floorOrCeil_122 : decode cJ6_floorOrCeil 122 = .ok (.dadd, 1) := dk_99 (dk_at dksJ6_floorOrCeil_5 4 rfl rfl)
theorem dJ6_floorOrCeil_123 : decode cJ6_floorOrCeil 123 = .ok (.dstore 13, 2) := dk_57 13 (dk_at dksJ6_floorOrCeil_5 5 rfl rfl)
theorem dJ6_floorOrCeil_125 : decode cJ6_floorOrCeil 125 = .ok (.dload 13, 2) := dk_24 13 (dk_at dksJ6_floorOrCeil_5 7 rfl rfl)
theorem dJ6_floorOrCeil_127 : decode cJ6_floorOrCeil 127 = .ok (.dreturn, 1) := dk_175 (dk_at dksJ6_floorOrCeil_5 9 rfl rfl)
abbrev cJ6_cos : ByteArray := prog_25_method_3_code
def yJ6_cos : MethodName := ⟨RJ6, "cos", "(D)D"⟩
theorem dJ6_cos_0 : decode cJ6_cos 0 = .ok (.dload_n 0, 1) := by decide +kernel
theorem dJ6_cos_1 : decode cJ6_cos 1 = .ok (.invokestatic 15, 3) := by decide +kernel
theorem dJ6_cos_4 : decode cJ6_cos 4 = .ok (.dreturn, 1) := by decide +kernel
abbrev cJ6_tan : ByteArray := prog_25_method_4_code
def yJ6_tan : MethodName := ⟨RJ6, "tan", "(D)D"⟩
theorem dJ6_tan_0 : decode cJ6_tan 0 = .ok (.dload_n 0, 1) := by decide +kernel
theorem dJ6_tan_1 : decode cJ6_tan 1 = .ok (.invokestatic 18, 3) := by decide +kernel
theorem dJ6_tan_4 : decode cJ6_tan 4 = .ok (.dreturn, 1) := by decide +kernel
theorem q47 : (Jvm.Cond.initialized "java/lang/StrictMath") ∈ lw_all := lw_g (lw_at lw_m1 8 rfl) rfl
theorem q174 : (Jvm.Cond.static ({ cls := "java/lang/StrictMath", name := "sin", desc := "(D)D" } : Jvm.MethodName)) ∈ lw_all := lw_g (lw_at lw_m1 135 rfl) rfl
theorem q175 : (Jvm.Cond.code ({ cls := "java/lang/StrictMath", name := "sin", desc := "(D)D" } : Jvm.MethodName) prog_25_method_2_code (2 : Nat) (Option.some Jvm.ClassFile.FieldType.double)) ∈ lw_all := lw_g (lw_at lw_m1 136 rfl) rfl
theorem q176 : (Jvm.Cond.methodLink "java/lang/StrictMath" (9 : Nat) ({ cls := "java/lang/FdLibm$Sin", name := "compute", desc := "(D)D" } : Jvm.MethodName)) ∈ lw_all := lw_g (lw_at lw_m1 137 rfl) rfl
theorem q276 : (Jvm.Cond.static ({ cls := "java/lang/StrictMath", name := "floor", desc := "(D)D" } : Jvm.MethodName)) ∈ lw_all := lw_g (lw_at lw_m1 237 rfl) rfl
theorem q277 : (Jvm.Cond.code ({ cls := "java/lang/StrictMath", name := "floor", desc := "(D)D" } : Jvm.MethodName) prog_25_method_17_code (2 : Nat) (Option.some Jvm.ClassFile.FieldType.double)) ∈ lw_all := lw_g (lw_at lw_m1 238 rfl) rfl
theorem q278 : (Jvm.Cond.constantDouble "java/lang/StrictMath" (64 : Nat) (13830554455654793216 : UInt64)) ∈ lw_all := lw_g (lw_at lw_m1 239 rfl) rfl
theorem q279 : (Jvm.Cond.methodLink "java/lang/StrictMath" (60 : Nat) ({ cls := "java/lang/StrictMath", name := "floorOrCeil", desc := "(DDDD)D" } : Jvm.MethodName)) ∈ lw_all := lw_g (lw_at lw_m2 0 rfl) rfl
theorem q280 : (Jvm.Cond.static ({ cls := "java/lang/StrictMath", name := "floorOrCeil", desc := "(DDDD)D" } : Jvm.MethodName)) ∈ lw_all := lw_g (lw_at lw_m2 1 rfl) rfl
theorem q281 : (Jvm.Cond.code ({ cls := "java/lang/StrictMath", name := "floorOrCeil", desc := "(DDDD)D" } : Jvm.MethodName) prog_25_method_18_code (15 : Nat) (Option.some Jvm.ClassFile.FieldType.double)) ∈ lw_all := lw_g (lw_at lw_m2 2 rfl) rfl
theorem q282 : (Jvm.Cond.methodLink "java/lang/StrictMath" (66 : Nat) ({ cls := "java/lang/Math", name := "getExponent", desc := "(D)I" } : Jvm.MethodName)) ∈ lw_all := lw_g (lw_at lw_m2 3 rfl) rfl
theorem q285 : (Jvm.Cond.fieldLink "java/lang/StrictMath" (70 : Nat) "java/lang/StrictMath" "$assertionsDisabled" "Z") ∈ lw_all := lw_g (lw_at lw_m2 6 rfl) rfl
theorem q286 : (Jvm.Cond.laysStatic "java/lang/StrictMath" "$assertionsDisabled" "Z") ∈ lw_tbl := lw_at lw_m2 7 rfl
theorem q287 : (Jvm.Cond.methodLink "java/lang/StrictMath" (77 : Nat) ({ cls := "java/lang/Double", name := "doubleToRawLongBits", desc := "(D)J" } : Jvm.MethodName)) ∈ lw_all := lw_g (lw_at lw_m2 8 rfl) rfl
theorem q288 : (Jvm.Cond.constantLong "java/lang/StrictMath" (85 : Nat) (4503599627370495 : Int64)) ∈ lw_all := lw_g (lw_at lw_m2 9 rfl) rfl
theorem q289 : (Jvm.Cond.constantLong "java/lang/StrictMath" (87 : Nat) (-1 : Int64)) ∈ lw_all := lw_g (lw_at lw_m2 10 rfl) rfl
theorem q290 : (Jvm.Cond.methodLink "java/lang/StrictMath" (89 : Nat) ({ cls := "java/lang/Double", name := "longBitsToDouble", desc := "(J)D" } : Jvm.MethodName)) ∈ lw_all := lw_g (lw_at lw_m2 11 rfl) rfl
theorem q319 : (Jvm.Cond.static ({ cls := "java/lang/StrictMath", name := "cos", desc := "(D)D" } : Jvm.MethodName)) ∈ lw_all := lw_g (lw_at lw_m2 40 rfl) rfl
theorem q320 : (Jvm.Cond.code ({ cls := "java/lang/StrictMath", name := "cos", desc := "(D)D" } : Jvm.MethodName) prog_25_method_3_code (2 : Nat) (Option.some Jvm.ClassFile.FieldType.double)) ∈ lw_all := lw_g (lw_at lw_m2 41 rfl) rfl
theorem q321 : (Jvm.Cond.methodLink "java/lang/StrictMath" (15 : Nat) ({ cls := "java/lang/FdLibm$Cos", name := "compute", desc := "(D)D" } : Jvm.MethodName)) ∈ lw_all := lw_g (lw_at lw_m2 42 rfl) rfl
theorem q330 : (Jvm.Cond.static ({ cls := "java/lang/StrictMath", name := "tan", desc := "(D)D" } : Jvm.MethodName)) ∈ lw_all := lw_g (lw_at lw_m2 51 rfl) rfl
theorem q331 : (Jvm.Cond.code ({ cls := "java/lang/StrictMath", name := "tan", desc := "(D)D" } : Jvm.MethodName) prog_25_method_4_code (2 : Nat) (Option.some Jvm.ClassFile.FieldType.double)) ∈ lw_all := lw_g (lw_at lw_m2 52 rfl) rfl
theorem q332 : (Jvm.Cond.methodLink "java/lang/StrictMath" (18 : Nat) ({ cls := "java/lang/FdLibm$Tan", name := "compute", desc := "(D)D" } : Jvm.MethodName)) ∈ lw_all := lw_g (lw_at lw_m2 53 rfl) rfl
/-! java/lang/FdLibm$Sin -/
set_option maxRecDepth 100000
def RJ7 : String := "java/lang/FdLibm$Sin"
abbrev cJ7_compute : ByteArray := prog_15_method_2_code
def yJ7_compute : MethodName := ⟨RJ7, "compute", "(D)D"⟩
def dkwJ7_compute_5 : List UInt8 := [44, 4, 49, 4, 184, 0, 18, 119, 175, 44, 3, 49, 44, 4, 49, 184, 0, 31, 119, 175]
abbrev dktJ7_compute_5 : List UInt8 := dkwJ7_compute_5 ++ []
def dkwJ7_compute_4 : List UInt8 := [44, 3, 49, 44, 4, 49, 4, 184, 0, 18, 175, 44, 3, 49, 44, 4, 49, 184, 0, 31, 175, 44, 3, 49]
abbrev dktJ7_compute_4 : List UInt8 := dkwJ7_compute_4 ++ dktJ7_compute_5
def dkwJ7_compute_3 : List UInt8 := [170, 0, 0, 0, 58, 0, 0, 0, 0, 0, 0, 0, 2, 0, 0, 0, 25, 0, 0, 0, 36, 0, 0, 0, 46]
abbrev dktJ7_compute_3 : List UInt8 := dkwJ7_compute_3 ++ dktJ7_compute_4
def dkwJ7_compute_2 : List UInt8 := [184, 0, 25, 54, 5, 21, 5, 6, 126]
abbrev dktJ7_compute_2 : List UInt8 := dkwJ7_compute_2 ++ dktJ7_compute_3
def dkwJ7_compute_1 : List UInt8 := [163, 0, 10, 38, 41, 3, 184, 0, 18, 175, 21, 6, 18, 24, 161, 0, 7, 38, 38, 103, 175, 38, 44]
abbrev dktJ7_compute_1 : List UInt8 := dkwJ7_compute_1 ++ dktJ7_compute_2
def dkwJ7_compute_0 : List UInt8 := [5, 188, 7, 77, 14, 74, 38, 184, 0, 12, 54, 6, 21, 6, 18, 16, 126, 54, 6, 21, 6, 18, 17]
abbrev dktJ7_compute_0 : List UInt8 := dkwJ7_compute_0 ++ dktJ7_compute_1
theorem dksJ7_compute_0 : cJ7_compute.data.toList.drop 0 = dktJ7_compute_0 := by decide +kernel
theorem dksJ7_compute_1 : cJ7_compute.data.toList.drop 23 = dktJ7_compute_1 := dk_seg dksJ7_compute_0 23 rfl rfl
theorem dksJ7_compute_2 : cJ7_compute.data.toList.drop 46 = dktJ7_compute_2 := dk_seg dksJ7_compute_1 23 rfl rfl
theorem dksJ7_compute_3 : cJ7_compute.data.toList.drop 55 = dktJ7_compute_3 := dk_seg dksJ7_compute_2 9 rfl rfl
theorem dksJ7_compute_4 : cJ7_compute.data.toList.drop 80 = dktJ7_compute_4 := dk_seg dksJ7_compute_3 25 rfl rfl
theorem dksJ7_compute_5 : cJ7_compute.data.toList.drop 104 = dktJ7_compute_5 := dk_seg dksJ7_compute_4 24 rfl rfl
theorem dJ7_compute_0 : decode cJ7_compute 0 = .ok (.iconst 2, 1) := dk_5 (dk_at dksJ7_compute_0 0 rfl rfl)
theorem dJ7_compute_1 : decode cJ7_compute 1 = .ok (.newarray .double, 2) := dk_188_7 (dk_at dksJ7_compute_0 1 rfl rfl)
theorem dJ7_compute_3 : decode cJ7_compute 3 = .ok (.astore_n 2, 1) := dk_77 (dk_at dksJ7_compute_0 3 rfl rfl)
theorem dJ7_compute_4 : decode cJ7_compute 4 = .ok (.dconst 0, 1) := dk_14 (dk_at dksJ7_compute_0 4 rfl rfl)
theorem dJ7_compute_5 : decode cJ7_compute 5 = .ok (.dstore_n 3, 1) := dk_74 (dk_at dksJ7_compute_0 5 rfl rfl)
theorem dJ7_compute_6 : decode cJ7_compute 6 = .ok (.dload_n 0, 1) := dk_38 (dk_at dksJ7_compute_0 6 rfl rfl)
theorem dJ7_compute_7 : decode cJ7_compute 7 = .ok (.invokestatic 12, 3) := dk_184 0 12 (dk_at dksJ7_compute_0 7 rfl rfl)
theorem dJ7_compute_10 : decode cJ7_compute 10 = .ok (.istore 6, 2) := dk_54 6 (dk_at dksJ7_compute_0 10 rfl rfl)
theorem dJ7_compute_12 : decode cJ7_compute 12 = .ok (.iload 6, 2) := dk_21 6 (dk_at dksJ7_compute_0 12 rfl rfl)
theorem dJ7_compute_14 : decode cJ7_compute 14 = .ok (.ldc 16, 2) := dk_18 16 (dk_at dksJ7_compute_0 14 rfl rfl)
theorem dJ7_compute_16 : decode cJ7_compute 16 = .ok (.iand, 1) := dk_126 (dk_at dksJ7_compute_0 16 rfl rfl)
theorem dJ7_compute_17 : decode cJ7_compute 17 = .ok (.istore 6, 2) := dk_54 6 (dk_at dksJ7_compute_0 17 rfl rfl)
theorem dJ7_compute_19 : decode cJ7_compute 19 = .ok (.iload 6, 2) := dk_21 6 (dk_at dksJ7_compute_0 19 rfl rfl)
theorem dJ7_compute_21 : decode cJ7_compute 21 = .ok (.ldc 17, 2) := dk_18 17 (dk_at dksJ7_compute_0 21 rfl rfl)
theorem dJ7_compute_23 : decode cJ7_compute 23 = .ok (.if_icmp .gt 10, 3) := dk_163 0 10 (dk_at dksJ7_compute_1 0 rfl rfl)
theorem dJ7_compute_26 : decode cJ7_compute 26 = .ok (.dload_n 0, 1) := dk_38 (dk_at dksJ7_compute_1 3 rfl rfl)
theorem dJ7_compute_27 : decode cJ7_compute 27 = .ok (.dload_n 3, 1) := dk_41 (dk_at dksJ7_compute_1 4 rfl rfl)
theorem dJ7_compute_28 : decode cJ7_compute 28 = .ok (.iconst 0, 1) := dk_3 (dk_at dksJ7_compute_1 5 rfl rfl)
theorem dJ7_compute_29 : decode cJ7_compute 29 = .ok (.invokestatic 18, 3) := dk_184 0 18 (dk_at dksJ7_compute_1 6 rfl rfl)
theorem dJ7_compute_32 : decode cJ7_compute 32 = .ok (.dreturn, 1) := dk_175 (dk_at dksJ7_compute_1 9 rfl rfl)
theorem dJ7_compute_33 : decode cJ7_compute 33 = .ok (.iload 6, 2) := dk_21 6 (dk_at dksJ7_compute_1 10 rfl rfl)
theorem dJ7_compute_35 : decode cJ7_compute 35 = .ok (.ldc 24, 2) := dk_18 24 (dk_at dksJ7_compute_1 12 rfl rfl)
theorem dJ7_compute_37 : decode cJ7_compute 37 = .ok (.if_icmp .lt 7, 3) := dk_161 0 7 (dk_at dksJ7_compute_1 14 rfl rfl)
theorem dJ7_compute_40 : decode cJ7_compute 40 = .ok (.dload_n 0, 1) := dk_38 (dk_at dksJ7_compute_1 17 rfl rfl)
theorem dJ7_compute_41 : decode cJ7_compute 41 = .ok (.dload_n 0, 1) := dk_38 (dk_at dksJ7_compute_1 18 rfl rfl)
theorem dJ7_compute_42 : decode cJ7_compute 42 = .ok (.dsub, 1) := dk_103 (dk_at dksJ7_compute_1 19 rfl rfl)
theorem dJ7_compute_43 : decode cJ7_compute 43 = .ok (.dreturn, 1) := dk_175 (dk_at dksJ7_compute_1 20 rfl rfl)
theorem dJ7_compute_44 : decode cJ7_compute 44 = .ok (.dload_n 0, 1) := dk_38 (dk_at dksJ7_compute_1 21 rfl rfl)
theorem dJ7_compute_45 : decode cJ7_compute 45 = .ok (.aload_n 2, 1) := dk_44 (dk_at dksJ7_compute_1 22 rfl rfl)
theorem dJ7_compute_46 : decode cJ7_compute 46 = .ok (.invokestatic 25, 3) := dk_184 0 25 (dk_at dksJ7_compute_2 0 rfl rfl)
theorem dJ7_compute_49 : decode cJ7_compute 49 = .ok (.istore 5, 2) := dk_54 5 (dk_at dksJ7_compute_2 3 rfl rfl)
theorem dJ7_compute_51 : decode cJ7_compute 51 = .ok (.iload 5, 2) := dk_21 5 (dk_at dksJ7_compute_2 5 rfl rfl)
theorem dJ7_compute_53 : decode cJ7_compute 53 = .ok (.iconst 3, 1) := dk_6 (dk_at dksJ7_compute_2 7 rfl rfl)
theorem dJ7_compute_54 : decode cJ7_compute 54 = .ok (.iand, 1) := dk_126 (dk_at dksJ7_compute_2 8 rfl rfl)
theorem dJ7_compute_55 : decode cJ7_compute 55 = .ok (.tableswitch 58 0 2 #[25, 36, 46], 25) := by decide +kernel
theorem dJ7_compute_80 : decode cJ7_compute 80 = .ok (.aload_n 2, 1) := dk_44 (dk_at dksJ7_compute_4 0 rfl rfl)
theorem dJ7_compute_81 : decode cJ7_compute 81 = .ok (.iconst 0, 1) := dk_3 (dk_at dksJ7_compute_4 1 rfl rfl)
theorem dJ7_compute_82 : decode cJ7_compute 82 = .ok (.daload, 1) := dk_49 (dk_at dksJ7_compute_4 2 rfl rfl)
theorem dJ7_compute_83 : decode cJ7_compute 83 = .ok (.aload_n 2, 1) := dk_44 (dk_at dksJ7_compute_4 3 rfl rfl)
theorem dJ7_compute_84 : decode cJ7_compute 84 = .ok (.iconst 1, 1) := dk_4 (dk_at dksJ7_compute_4 4 rfl rfl)
theorem dJ7_compute_85 : decode cJ7_compute 85 = .ok (.daload, 1) := dk_49 (dk_at dksJ7_compute_4 5 rfl rfl)
theorem dJ7_compute_86 : decode cJ7_compute 86 = .ok (.iconst 1, 1) := dk_4 (dk_at dksJ7_compute_4 6 rfl rfl)
theorem dJ7_compute_87 : decode cJ7_compute 87 = .ok (.invokestatic 18, 3) := dk_184 0 18 (dk_at dksJ7_compute_4 7 rfl rfl)
theorem dJ7_compute_90 : decode cJ7_compute 90 = .ok (.dreturn, 1) := dk_175 (dk_at dksJ7_compute_4 10 rfl rfl)
theorem dJ7_compute_91 : decode cJ7_compute 91 = .ok (.aload_n 2, 1) := dk_44 (dk_at dksJ7_compute_4 11 rfl rfl)
theorem dJ7_compute_92 : decode cJ7_compute 92 = .ok (.iconst 0, 1) := dk_3 (dk_at dksJ7_compute_4 12 rfl rfl)
theorem dJ7_compute_93 : decode cJ7_compute 93 = .ok (.daload, 1) := dk_49 (dk_at dksJ7_compute_4 13 rfl rfl)
theorem dJ7_compute_94 : decode cJ7_compute 94 = .ok (.aload_n 2, 1) := dk_44 (dk_at dksJ7_compute_4 14 rfl rfl)
theorem dJ7_compute_95 : decode cJ7_compute 95 = .ok (.iconst 1, 1) := dk_4 (dk_at dksJ7_compute_4 15 rfl rfl)
theorem dJ7_compute_96 : decode cJ7_compute 96 = .ok (.daload, 1) := dk_49 (dk_at dksJ7_compute_4 16 rfl rfl)
theorem dJ7_compute_97 : decode cJ7_compute 97 = .ok (.invokestatic 31, 3) := dk_184 0 31 (dk_at dksJ7_compute_4 17 rfl rfl)
theorem dJ7_compute_100 : decode cJ7_compute 100 = .ok (.dreturn, 1) := dk_175 (dk_at dksJ7_compute_4 20 rfl rfl)
theorem dJ7_compute_101 : decode cJ7_compute 101 = .ok (.aload_n 2, 1) := dk_44 (dk_at dksJ7_compute_4 21 rfl rfl)
theorem dJ7_compute_102 : decode cJ7_compute 102 = .ok (.iconst 0, 1) := dk_3 (dk_at dksJ7_compute_4 22 rfl rfl)
theorem dJ7_compute_103 : decode cJ7_compute 103 = .ok (.daload, 1) := dk_49 (dk_at dksJ7_compute_4 23 rfl rfl)
theorem dJ7_compute_104 : decode cJ7_compute 104 = .ok (.aload_n 2, 1) := dk_44 (dk_at dksJ7_compute_5 0 rfl rfl)
theorem dJ7_compute_105 : decode cJ7_compute 105 = .ok (.iconst 1, 1) := dk_4 (dk_at dksJ7_compute_5 1 rfl rfl)
theorem dJ7_compute_106 : decode cJ7_compute 106 = .ok (.daload, 1) := dk_49 (dk_at dksJ7_compute_5 2 rfl rfl)
theorem dJ7_compute_107 : decode cJ7_compute 107 = .ok (.iconst 1, 1) := dk_4 (dk_at dksJ7_compute_5 3 rfl rfl)
theorem dJ7_compute_108 : decode cJ7_compute 108 = .ok (.invokestatic 18, 3) := dk_184 0 18 (dk_at dksJ7_compute_5 4 rfl rfl)
theorem dJ7_compute_111 : decode cJ7_compute 111 = .ok (.dneg, 1) := dk_119 (dk_at dksJ7_compute_5 7 rfl rfl)
theorem dJ7_compute_112 : decode cJ7_compute 112 = .ok (.dreturn, 1) := dk_175 (dk_at dksJ7_compute_5 8 rfl rfl)
theorem dJ7_compute_113 : decode cJ7_compute 113 = .ok (.aload_n 2, 1) := dk_44 (dk_at dksJ7_compute_5 9 rfl rfl)
theorem dJ7_compute_114 : decode cJ7_compute 114 = .ok (.iconst 0, 1) := dk_3 (dk_at dksJ7_compute_5 10 rfl rfl)
theorem dJ7_compute_115 : decode cJ7_compute 115 = .ok (.daload, 1) := dk_49 (dk_at dksJ7_compute_5 11 rfl rfl)
theorem dJ7_compute_116 : decode cJ7_compute 116 = .ok (.aload_n 2, 1) := dk_44 (dk_at dksJ7_compute_5 12 rfl rfl)
theorem dJ7_compute_117 : decode cJ7_compute 117 = .ok (.iconst 1, 1) := dk_4 (dk_at dksJ7_compute_5 13 rfl rfl)
theorem dJ7_compute_118 : decode cJ7_compute 118 = .ok (.daload, 1) := dk_49 (dk_at dksJ7_compute_5 14 rfl rfl)
theorem dJ7_compute_119 : decode cJ7_compute 119 = .ok (.invokestatic 31, 3) := dk_184 0 31 (dk_at dksJ7_compute_5 15 rfl rfl)
theorem dJ7_compute_122 : decode cJ7_compute 122 = .ok (.dneg, 1) := dk_119 (dk_at dksJ7_compute_5 18 rfl rfl)
theorem dJ7_compute_123 : decode cJ7_compute 123 = .ok (.dreturn, 1) := dk_175 (dk_at dksJ7_compute_5 19 rfl rfl)
abbrev cJ7___kernel_sin : ByteArray := prog_15_method_3_code
def yJ7___kernel_sin : MethodName := ⟨RJ7, "__kernel_sin", "(DDI)D"⟩
def dkwJ7___kernel_sin_4 : List UInt8 := [40, 107, 24, 9, 24, 7, 107, 103, 107, 40, 103, 24, 9, 20, 0, 48, 107, 103, 103, 175]
abbrev dktJ7___kernel_sin_4 : List UInt8 := dkwJ7___kernel_sin_4 ++ []
def dkwJ7___kernel_sin_3 : List UInt8 := [154, 0, 18, 38, 24, 9, 20, 0, 48, 24, 5, 24, 7, 107, 99, 107, 99, 175, 38, 24, 5, 20, 0, 50]
abbrev dktJ7___kernel_sin_3 : List UInt8 := dkwJ7___kernel_sin_3 ++ dktJ7___kernel_sin_4
def dkwJ7___kernel_sin_2 : List UInt8 := [24, 5, 20, 0, 44, 24, 5, 20, 0, 46, 107, 99, 107, 99, 107, 99, 107, 99, 57, 7, 21, 4]
abbrev dktJ7___kernel_sin_2 : List UInt8 := dkwJ7___kernel_sin_2 ++ dktJ7___kernel_sin_3
def dkwJ7___kernel_sin_1 : List UInt8 := [38, 107, 57, 5, 24, 5, 38, 107, 57, 9, 20, 0, 38, 24, 5, 20, 0, 40, 24, 5, 20, 0, 42]
abbrev dktJ7___kernel_sin_1 : List UInt8 := dkwJ7___kernel_sin_1 ++ dktJ7___kernel_sin_2
def dkwJ7___kernel_sin_0 : List UInt8 := [38, 184, 0, 12, 18, 16, 126, 54, 11, 21, 11, 18, 37, 162, 0, 10, 38, 142, 154, 0, 5, 38, 175, 38]
abbrev dktJ7___kernel_sin_0 : List UInt8 := dkwJ7___kernel_sin_0 ++ dktJ7___kernel_sin_1
theorem dksJ7___kernel_sin_0 : cJ7___kernel_sin.data.toList.drop 0 = dktJ7___kernel_sin_0 := by decide +kernel
theorem dksJ7___kernel_sin_1 : cJ7___kernel_sin.data.toList.drop 24 = dktJ7___kernel_sin_1 := dk_seg dksJ7___kernel_sin_0 24 rfl rfl
theorem dksJ7___kernel_sin_2 : cJ7___kernel_sin.data.toList.drop 47 = dktJ7___kernel_sin_2 := dk_seg dksJ7___kernel_sin_1 23 rfl rfl
theorem dksJ7___kernel_sin_3 : cJ7___kernel_sin.data.toList.drop 69 = dktJ7___kernel_sin_3 := dk_seg dksJ7___kernel_sin_2 22 rfl rfl
theorem dksJ7___kernel_sin_4 : cJ7___kernel_sin.data.toList.drop 93 = dktJ7___kernel_sin_4 := dk_seg dksJ7___kernel_sin_3 24 rfl rfl
theorem dJ7___kernel_sin_0 : decode cJ7___kernel_sin 0 = .ok (.dload_n 0, 1) := dk_38 (dk_at dksJ7___kernel_sin_0 0 rfl rfl)
theorem dJ7___kernel_sin_1 : decode cJ7___kernel_sin 1 = .ok (.invokestatic 12, 3) := dk_184 0 12 (dk_at dksJ7___kernel_sin_0 1 rfl rfl)
theorem dJ7___kernel_sin_4 : decode cJ7___kernel_sin 4 = .ok (.ldc 16, 2) := dk_18 16 (dk_at dksJ7___kernel_sin_0 4 rfl rfl)
theorem dJ7___kernel_sin_6 : decode cJ7___kernel_sin 6 = .ok (.iand, 1) := dk_126 (dk_at dksJ7___kernel_sin_0 6 rfl rfl)
theorem dJ7___kernel_sin_7 : decode cJ7___kernel_sin 7 = .ok (.istore 11, 2) := dk_54 11 (dk_at dksJ7___kernel_sin_0 7 rfl rfl)
theorem dJ7___kernel_sin_9 : decode cJ7___kernel_sin 9 = .ok (.iload 11, 2) := dk_21 11 (dk_at dksJ7___kernel_sin_0 9 rfl rfl)
theorem dJ7___kernel_sin_11 : decode cJ7___kernel_sin 11 = .ok (.ldc 37, 2) := dk_18 37 (dk_at dksJ7___kernel_sin_0 11 rfl rfl)
theorem dJ7___kernel_sin_13 : decode cJ7___kernel_sin 13 = .ok (.if_icmp .ge 10, 3) := dk_162 0 10 (dk_at dksJ7___kernel_sin_0 13 rfl rfl)
theorem dJ7___kernel_sin_16 : decode cJ7___kernel_sin 16 = .ok (.dload_n 0, 1) := dk_38 (dk_at dksJ7___kernel_sin_0 16 rfl rfl)
theorem dJ7___kernel_sin_17 : decode cJ7___kernel_sin 17 = .ok (.d2i, 1) := dk_142 (dk_at dksJ7___kernel_sin_0 17 rfl rfl)
theorem dJ7___kernel_sin_18 : decode cJ7___kernel_sin 18 = .ok (.ifCond .ne 5, 3) := dk_154 0 5 (dk_at dksJ7___kernel_sin_0 18 rfl rfl)
theorem dJ7___kernel_sin_21 : decode cJ7___kernel_sin 21 = .ok (.dload_n 0, 1) := dk_38 (dk_at dksJ7___kernel_sin_0 21 rfl rfl)
theorem dJ7___kernel_sin_22 : decode cJ7___kernel_sin 22 = .ok (.dreturn, 1) := dk_175 (dk_at dksJ7___kernel_sin_0 22 rfl rfl)
theorem dJ7___kernel_sin_23 : decode cJ7___kernel_sin 23 = .ok (.dload_n 0, 1) := dk_38 (dk_at dksJ7___kernel_sin_0 23 rfl rfl)
theorem dJ7___kernel_sin_24 : decode cJ7___kernel_sin 24 = .ok (.dload_n 0, 1) := dk_38 (dk_at dksJ7___kernel_sin_1 0 rfl rfl)
theorem dJ7___kernel_sin_25 : decode cJ7___kernel_sin 25 = .ok (.dmul, 1) := dk_107 (dk_at dksJ7___kernel_sin_1 1 rfl rfl)
theorem dJ7___kernel_sin_26 : decode cJ7___kernel_sin 26 = .ok (.dstore 5, 2) := dk_57 5 (dk_at dksJ7___kernel_sin_1 2 rfl rfl)
theorem dJ7___kernel_sin_28 : decode cJ7___kernel_sin 28 = .ok (.dload 5, 2) := dk_24 5 (dk_at dksJ7___kernel_sin_1 4 rfl rfl)
theorem dJ7___kernel_sin_30 : decode cJ7___kernel_sin 30 = .ok (.dload_n 0, 1) := dk_38 (dk_at dksJ7___kernel_sin_1 6 rfl rfl)
theorem dJ7___kernel_sin_31 : decode cJ7___kernel_sin 31 = .ok (.dmul, 1) := dk_107 (dk_at dksJ7___kernel_sin_1 7 rfl rfl)
theorem dJ7___kernel_sin_32 : decode cJ7___kernel_sin 32 = .ok (.dstore 9, 2) := dk_57 9 (dk_at dksJ7___kernel_sin_1 8 rfl rfl)
theorem dJ7___kernel_sin_34 : decode cJ7___kernel_sin 34 = .ok (.ldc2_w 38, 3) := dk_20 0 38 (dk_at dksJ7___kernel_sin_1 10 rfl rfl)
theorem dJ7___kernel_sin_37 : decode cJ7___kernel_sin 37 = .ok (.dload 5, 2) := dk_24 5 (dk_at dksJ7___kernel_sin_1 13 rfl rfl)
theorem dJ7___kernel_sin_39 : decode cJ7___kernel_sin 39 = .ok (.ldc2_w 40, 3) := dk_20 0 40 (dk_at dksJ7___kernel_sin_1 15 rfl rfl)
theorem dJ7___kernel_sin_42 : decode cJ7___kernel_sin 42 = .ok (.dload 5, 2) := dk_24 5 (dk_at dksJ7___kernel_sin_1 18 rfl rfl)
theorem dJ7___kernel_sin_44 : decode cJ7___kernel_sin 44 = .ok (.ldc2_w 42, 3) := dk_20 0 42 (dk_at dksJ7___kernel_sin_1 20 rfl rfl)
theorem dJ7___kernel_sin_47 : decode cJ7___kernel_sin 47 = .ok (.dload 5, 2) := dk_24 5 (dk_at dksJ7___kernel_sin_2 0 rfl rfl)
theorem dJ7___kernel_sin_49 : decode cJ7___kernel_sin 49 = .ok (.ldc2_w 44, 3) := dk_20 0 44 (dk_at dksJ7___kernel_sin_2 2 rfl rfl)
theorem dJ7___kernel_sin_52 : decode cJ7___kernel_sin 52 = .ok (.dload 5, 2) := dk_24 5 (dk_at dksJ7___kernel_sin_2 5 rfl rfl)
theorem dJ7___kernel_sin_54 : decode cJ7___kernel_sin 54 = .ok (.ldc2_w 46, 3) := dk_20 0 46 (dk_at dksJ7___kernel_sin_2 7 rfl rfl)
theorem dJ7___kernel_sin_57 : decode cJ7___kernel_sin 57 = .ok (.dmul, 1) := dk_107 (dk_at dksJ7___kernel_sin_2 10 rfl rfl)
theorem dJ7___kernel_sin_58 : decode cJ7___kernel_sin 58 = .ok (.dadd, 1) := dk_99 (dk_at dksJ7___kernel_sin_2 11 rfl rfl)
theorem dJ7___kernel_sin_59 : decode cJ7___kernel_sin 59 = .ok (.dmul, 1) := dk_107 (dk_at dksJ7___kernel_sin_2 12 rfl rfl)
theorem dJ7___kernel_sin_60 : decode cJ7___kernel_sin 60 = .ok (.dadd, 1) := dk_99 (dk_at dksJ7___kernel_sin_2 13 rfl rfl)
theorem dJ7___kernel_sin_61 : decode cJ7___kernel_sin 61 = .ok (.dmul, 1) := dk_107 (dk_at dksJ7___kernel_sin_2 14 rfl rfl)
theorem dJ7___kernel_sin_62 : decode cJ7___kernel_sin 62 = .ok (.dadd, 1) := dk_99 (dk_at dksJ7___kernel_sin_2 15 rfl rfl)
theorem dJ7___kernel_sin_63 : decode cJ7___kernel_sin 63 = .ok (.dmul, 1) := dk_107 (dk_at dksJ7___kernel_sin_2 16 rfl rfl)
theorem dJ7___kernel_sin_64 : decode cJ7___kernel_sin 64 = .ok (.dadd, 1) := dk_99 (dk_at dksJ7___kernel_sin_2 17 rfl rfl)
theorem dJ7___kernel_sin_65 : decode cJ7___kernel_sin 65 = .ok (.dstore 7, 2) := dk_57 7 (dk_at dksJ7___kernel_sin_2 18 rfl rfl)
theorem dJ7___kernel_sin_67 : decode cJ7___kernel_sin 67 = .ok (.iload 4, 2) := dk_21 4 (dk_at dksJ7___kernel_sin_2 20 rfl rfl)
theorem dJ7___kernel_sin_69 : decode cJ7___kernel_sin 69 = .ok (.ifCond .ne 18, 3) := dk_154 0 18 (dk_at dksJ7___kernel_sin_3 0 rfl rfl)
theorem dJ7___kernel_sin_72 : decode cJ7___kernel_sin 72 = .ok (.dload_n 0, 1) := dk_38 (dk_at dksJ7___kernel_sin_3 3 rfl rfl)
theorem dJ7___kernel_sin_73 : decode cJ7___kernel_sin 73 = .ok (.dload 9, 2) := dk_24 9 (dk_at dksJ7___kernel_sin_3 4 rfl rfl)
theorem dJ7___kernel_sin_75 : decode cJ7___kernel_sin 75 = .ok (.ldc2_w 48, 3) := dk_20 0 48 (dk_at dksJ7___kernel_sin_3 6 rfl rfl)
theorem dJ7___kernel_sin_78 : decode cJ7___kernel_sin 78 = .ok (.dload 5, 2) := dk_24 5 (dk_at dksJ7___kernel_sin_3 9 rfl rfl)
theorem dJ7___kernel_sin_80 : decode cJ7___kernel_sin 80 = .ok (.dload 7, 2) := dk_24 7 (dk_at dksJ7___kernel_sin_3 11 rfl rfl)
theorem dJ7___kernel_sin_82 : decode cJ7___kernel_sin 82 = .ok (.dmul, 1) := dk_107 (dk_at dksJ7___kernel_sin_3 13 rfl rfl)
theorem dJ7___kernel_sin_83 : decode cJ7___kernel_sin 83 = .ok (.dadd, 1) := dk_99 (dk_at dksJ7___kernel_sin_3 14 rfl rfl)
theorem dJ7___kernel_sin_84 : decode cJ7___kernel_sin 84 = .ok (.dmul, 1) := dk_107 (dk_at dksJ7___kernel_sin_3 15 rfl rfl)
theorem dJ7___kernel_sin_85 : decode cJ7___kernel_sin 85 = .ok (.dadd, 1) := dk_99 (dk_at dksJ7___kernel_sin_3 16 rfl rfl)
theorem dJ7___kernel_sin_86 : decode cJ7___kernel_sin 86 = .ok (.dreturn, 1) := dk_175 (dk_at dksJ7___kernel_sin_3 17 rfl rfl)
theorem dJ7___kernel_sin_87 : decode cJ7___kernel_sin 87 = .ok (.dload_n 0, 1) := dk_38 (dk_at dksJ7___kernel_sin_3 18 rfl rfl)
theorem dJ7___kernel_sin_88 : decode cJ7___kernel_sin 88 = .ok (.dload 5, 2) := dk_24 5 (dk_at dksJ7___kernel_sin_3 19 rfl rfl)
theorem dJ7___kernel_sin_90 : decode cJ7___kernel_sin 90 = .ok (.ldc2_w 50, 3) := dk_20 0 50 (dk_at dksJ7___kernel_sin_3 21 rfl rfl)
theorem dJ7___kernel_sin_93 : decode cJ7___kernel_sin 93 = .ok (.dload_n 2, 1) := dk_40 (dk_at dksJ7___kernel_sin_4 0 rfl rfl)
theorem dJ7___kernel_sin_94 : decode cJ7___kernel_sin 94 = .ok (.dmul, 1) := dk_107 (dk_at dksJ7___kernel_sin_4 1 rfl rfl)
theorem dJ7___kernel_sin_95 : decode cJ7___kernel_sin 95 = .ok (.dload 9, 2) := dk_24 9 (dk_at dksJ7___kernel_sin_4 2 rfl rfl)
theorem dJ7___kernel_sin_97 : decode cJ7___kernel_sin 97 = .ok (.dload 7, 2) := dk_24 7 (dk_at dksJ7___kernel_sin_4 4 rfl rfl)
theorem dJ7___kernel_sin_99 : decode cJ7___kernel_sin 99 = .ok (.dmul, 1) := dk_107 (dk_at dksJ7___kernel_sin_4 6 rfl rfl)
theorem dJ7___kernel_sin_100 : decode cJ7___kernel_sin 100 = .ok (.dsub, 1) := dk_103 (dk_at dksJ7___kernel_sin_4 7 rfl rfl)
theorem dJ7___kernel_sin_101 : decode cJ7___kernel_sin 101 = .ok (.dmul, 1) := dk_107 (dk_at dksJ7___kernel_sin_4 8 rfl rfl)
theorem dJ7___kernel_sin_102 : decode cJ7___kernel_sin 102 = .ok (.dload_n 2, 1) := dk_40 (dk_at dksJ7___kernel_sin_4 9 rfl rfl)
theorem dJ7___kernel_sin_103 : decode cJ7___kernel_sin 103 = .ok (.dsub, 1) := dk_103 (dk_at dksJ7___kernel_sin_4 10 rfl rfl)
theorem dJ7___kernel_sin_104 : decode cJ7___kernel_sin 104 = .ok (.dload 9, 2) := dk_24 9 (dk_at dksJ7___kernel_sin_4 11 rfl rfl)
theorem dJ7___kernel_sin_106 : decode cJ7___kernel_sin 106 = .ok (.ldc2_w 48, 3) := dk_20 0 48 (dk_at dksJ7___kernel_sin_4 13 rfl rfl)
theorem dJ7___kernel_sin_109 : decode cJ7___kernel_sin 109 = .ok (.dmul, 1) := dk_107 (dk_at dksJ7___kernel_sin_4 16 rfl rfl)
theorem dJ7___kernel_sin_110 : decode cJ7___kernel_sin 110 = .ok (.dsub, 1) := dk_103 (dk_at dksJ7___kernel_sin_4 17 rfl rfl)
theorem dJ7___kernel_sin_111 : decode cJ7___kernel_sin 111 = .ok (.dsub, 1) := dk_103 (dk_at dksJ7___kernel_sin_4 18 rfl rfl)
theorem dJ7___kernel_sin_112 : decode cJ7___kernel_sin 112 = .ok (.dreturn, 1) := dk_175 (dk_at dksJ7___kernel_sin_4 19 rfl rfl)
theorem q48 : (Jvm.Cond.initialized "java/lang/FdLibm$Sin") ∈ lw_all := lw_g (lw_at lw_m1 9 rfl) rfl
theorem q177 : (Jvm.Cond.static ({ cls := "java/lang/FdLibm$Sin", name := "compute", desc := "(D)D" } : Jvm.MethodName)) ∈ lw_all := lw_g (lw_at lw_m1 138 rfl) rfl
theorem q178 : (Jvm.Cond.code ({ cls := "java/lang/FdLibm$Sin", name := "compute", desc := "(D)D" } : Jvm.MethodName) prog_15_method_2_code (7 : Nat) (Option.some Jvm.ClassFile.FieldType.double)) ∈ lw_all := lw_g (lw_at lw_m1 139 rfl) rfl
theorem q179 : (Jvm.Cond.methodLinkNest "java/lang/FdLibm$Sin" (12 : Nat) ({ cls := "java/lang/FdLibm", name := "__HI", desc := "(D)I" } : Jvm.MethodName) "java/lang/FdLibm") ∈ lw_tbl := lw_at lw_m1 140 rfl
theorem q185 : (Jvm.Cond.constant "java/lang/FdLibm$Sin" (16 : Nat) (2147483647 : Int32)) ∈ lw_all := lw_g (lw_at lw_m1 146 rfl) rfl
theorem q186 : (Jvm.Cond.constant "java/lang/FdLibm$Sin" (17 : Nat) (1072243195 : Int32)) ∈ lw_all := lw_g (lw_at lw_m1 147 rfl) rfl
theorem q187 : (Jvm.Cond.methodLink "java/lang/FdLibm$Sin" (18 : Nat) ({ cls := "java/lang/FdLibm$Sin", name := "__kernel_sin", desc := "(DDI)D" } : Jvm.MethodName)) ∈ lw_all := lw_g (lw_at lw_m1 148 rfl) rfl
theorem q188 : (Jvm.Cond.static ({ cls := "java/lang/FdLibm$Sin", name := "__kernel_sin", desc := "(DDI)D" } : Jvm.MethodName)) ∈ lw_all := lw_g (lw_at lw_m1 149 rfl) rfl
theorem q189 : (Jvm.Cond.code ({ cls := "java/lang/FdLibm$Sin", name := "__kernel_sin", desc := "(DDI)D" } : Jvm.MethodName) prog_15_method_3_code (12 : Nat) (Option.some Jvm.ClassFile.FieldType.double)) ∈ lw_all := lw_g (lw_at lw_m1 150 rfl) rfl
theorem q190 : (Jvm.Cond.constant "java/lang/FdLibm$Sin" (37 : Nat) (1044381696 : Int32)) ∈ lw_all := lw_g (lw_at lw_m1 151 rfl) rfl
theorem q191 : (Jvm.Cond.constantDouble "java/lang/FdLibm$Sin" (38 : Nat) (4575957461383575718 : UInt64)) ∈ lw_all := lw_g (lw_at lw_m1 152 rfl) rfl
theorem q192 : (Jvm.Cond.constantDouble "java/lang/FdLibm$Sin" (40 : Nat) (13774824197404582357 : UInt64)) ∈ lw_all := lw_g (lw_at lw_m1 153 rfl) rfl
theorem q193 : (Jvm.Cond.constantDouble "java/lang/FdLibm$Sin" (42 : Nat) (4523617212983017085 : UInt64)) ∈ lw_all := lw_g (lw_at lw_m1 154 rfl) rfl
theorem q194 : (Jvm.Cond.constantDouble "java/lang/FdLibm$Sin" (44 : Nat) (13716528393433619691 : UInt64)) ∈ lw_all := lw_g (lw_at lw_m1 155 rfl) rfl
theorem q195 : (Jvm.Cond.constantDouble "java/lang/FdLibm$Sin" (46 : Nat) (4460209850635244924 : UInt64)) ∈ lw_all := lw_g (lw_at lw_m1 156 rfl) rfl
theorem q196 : (Jvm.Cond.constantDouble "java/lang/FdLibm$Sin" (48 : Nat) (13818544856648471881 : UInt64)) ∈ lw_all := lw_g (lw_at lw_m1 157 rfl) rfl
theorem q197 : (Jvm.Cond.constantDouble "java/lang/FdLibm$Sin" (50 : Nat) (4602678819172646912 : UInt64)) ∈ lw_all := lw_g (lw_at lw_m1 158 rfl) rfl
theorem q198 : (Jvm.Cond.constant "java/lang/FdLibm$Sin" (24 : Nat) (2146435072 : Int32)) ∈ lw_all := lw_g (lw_at lw_m1 159 rfl) rfl
theorem q199 : (Jvm.Cond.methodLink "java/lang/FdLibm$Sin" (25 : Nat) ({ cls := "java/lang/FdLibm$RemPio2", name := "__ieee754_rem_pio2", desc := "(D[D)I" } : Jvm.MethodName)) ∈ lw_all := lw_g (lw_at lw_m1 160 rfl) rfl
theorem q298 : (Jvm.Cond.methodLink "java/lang/FdLibm$Sin" (31 : Nat) ({ cls := "java/lang/FdLibm$Cos", name := "__kernel_cos", desc := "(DD)D" } : Jvm.MethodName)) ∈ lw_all := lw_g (lw_at lw_m2 19 rfl) rfl
/-! java/lang/FdLibm -/
set_option maxRecDepth 100000
def RJ8 : String := "java/lang/FdLibm"
abbrev cJ8___HI : ByteArray := prog_11_method_4_code
def yJ8___HI : MethodName := ⟨RJ8, "__HI", "(D)I"⟩
def dkwJ8___HI_0 : List UInt8 := [38, 184, 0, 16, 65, 32, 16, 32, 123, 136, 172]
abbrev dktJ8___HI_0 : List UInt8 := dkwJ8___HI_0 ++ []
theorem dksJ8___HI_0 : cJ8___HI.data.toList.drop 0 = dktJ8___HI_0 := by decide +kernel
theorem dJ8___HI_0 : decode cJ8___HI 0 = .ok (.dload_n 0, 1) := dk_38 (dk_at dksJ8___HI_0 0 rfl rfl)
theorem dJ8___HI_1 : decode cJ8___HI 1 = .ok (.invokestatic 16, 3) := dk_184 0 16 (dk_at dksJ8___HI_0 1 rfl rfl)
theorem dJ8___HI_4 : decode cJ8___HI 4 = .ok (.lstore_n 2, 1) := dk_65 (dk_at dksJ8___HI_0 4 rfl rfl)
theorem dJ8___HI_5 : decode cJ8___HI 5 = .ok (.lload_n 2, 1) := dk_32 (dk_at dksJ8___HI_0 5 rfl rfl)
theorem dJ8___HI_6 : decode cJ8___HI 6 = .ok (.bipush 32, 2) := dk_16 32 (dk_at dksJ8___HI_0 6 rfl rfl)
theorem dJ8___HI_8 : decode cJ8___HI 8 = .ok (.lshr, 1) := dk_123 (dk_at dksJ8___HI_0 8 rfl rfl)
theorem dJ8___HI_9 : decode cJ8___HI 9 = .ok (.l2i, 1) := dk_136 (dk_at dksJ8___HI_0 9 rfl rfl)
theorem dJ8___HI_10 : decode cJ8___HI 10 = .ok (.ireturn, 1) := dk_172 (dk_at dksJ8___HI_0 10 rfl rfl)
abbrev cJ8___LO : ByteArray := prog_11_method_2_code
def yJ8___LO : MethodName := ⟨RJ8, "__LO", "(D)I"⟩
def dkwJ8___LO_0 : List UInt8 := [38, 184, 0, 16, 65, 32, 136, 172]
abbrev dktJ8___LO_0 : List UInt8 := dkwJ8___LO_0 ++ []
theorem dksJ8___LO_0 : cJ8___LO.data.toList.drop 0 = dktJ8___LO_0 := by decide +kernel
theorem dJ8___LO_0 : decode cJ8___LO 0 = .ok (.dload_n 0, 1) := dk_38 (dk_at dksJ8___LO_0 0 rfl rfl)
theorem dJ8___LO_1 : decode cJ8___LO 1 = .ok (.invokestatic 16, 3) := dk_184 0 16 (dk_at dksJ8___LO_0 1 rfl rfl)
theorem dJ8___LO_4 : decode cJ8___LO 4 = .ok (.lstore_n 2, 1) := dk_65 (dk_at dksJ8___LO_0 4 rfl rfl)
theorem dJ8___LO_5 : decode cJ8___LO 5 = .ok (.lload_n 2, 1) := dk_32 (dk_at dksJ8___LO_0 5 rfl rfl)
theorem dJ8___LO_6 : decode cJ8___LO 6 = .ok (.l2i, 1) := dk_136 (dk_at dksJ8___LO_0 6 rfl rfl)
theorem dJ8___LO_7 : decode cJ8___LO 7 = .ok (.ireturn, 1) := dk_172 (dk_at dksJ8___LO_0 7 rfl rfl)
abbrev cJ8___LO_2 : ByteArray := prog_11_method_3_code
def yJ8___LO_2 : MethodName := ⟨RJ8, "__LO", "(DI)D"⟩
def dkwJ8___LO_2_0 : List UInt8 := [38, 184, 0, 16, 66, 33, 20, 0, 20, 127, 28, 133, 20, 0, 22, 127, 129, 184, 0, 24, 175]
abbrev dktJ8___LO_2_0 : List UInt8 := dkwJ8___LO_2_0 ++ []
theorem dksJ8___LO_2_0 : cJ8___LO_2.data.toList.drop 0 = dktJ8___LO_2_0 := by decide +kernel
theorem dJ8___LO_2_0 : decode cJ8___LO_2 0 = .ok (.dload_n 0, 1) := dk_38 (dk_at dksJ8___LO_2_0 0 rfl rfl)
theorem dJ8___LO_2_1 : decode cJ8___LO_2 1 = .ok (.invokestatic 16, 3) := dk_184 0 16 (dk_at dksJ8___LO_2_0 1 rfl rfl)
theorem dJ8___LO_2_4 : decode cJ8___LO_2 4 = .ok (.lstore_n 3, 1) := dk_66 (dk_at dksJ8___LO_2_0 4 rfl rfl)
theorem dJ8___LO_2_5 : decode cJ8___LO_2 5 = .ok (.lload_n 3, 1) := dk_33 (dk_at dksJ8___LO_2_0 5 rfl rfl)
theorem dJ8___LO_2_6 : decode cJ8___LO_2 6 = .ok (.ldc2_w 20, 3) := dk_20 0 20 (dk_at dksJ8___LO_2_0 6 rfl rfl)
theorem dJ8___LO_2_9 : decode cJ8___LO_2 9 = .ok (.land, 1) := dk_127 (dk_at dksJ8___LO_2_0 9 rfl rfl)
theorem dJ8___LO_2_10 : decode cJ8___LO_2 10 = .ok (.iload_n 2, 1) := dk_28 (dk_at dksJ8___LO_2_0 10 rfl rfl)
theorem dJ8___LO_2_11 : decode cJ8___LO_2 11 = .ok (.i2l, 1) := dk_133 (dk_at dksJ8___LO_2_0 11 rfl rfl)
theorem dJ8___LO_2_12 : decode cJ8___LO_2 12 = .ok (.ldc2_w 22, 3) := dk_20 0 22 (dk_at dksJ8___LO_2_0 12 rfl rfl)
theorem dJ8___LO_2_15 : decode cJ8___LO_2 15 = .ok (.land, 1) := dk_127 (dk_at dksJ8___LO_2_0 15 rfl rfl)
theorem dJ8___LO_2_16 : decode cJ8___LO_2 16 = .ok (.lor, 1) := dk_129 (dk_at dksJ8___LO_2_0 16 rfl rfl)
theorem dJ8___LO_2_17 : decode cJ8___LO_2 17 = .ok (.invokestatic 24, 3) := dk_184 0 24 (dk_at dksJ8___LO_2_0 17 rfl rfl)
theorem dJ8___LO_2_20 : decode cJ8___LO_2 20 = .ok (.dreturn, 1) := dk_175 (dk_at dksJ8___LO_2_0 20 rfl rfl)
abbrev cJ8___HI_2 : ByteArray := prog_11_method_5_code
def yJ8___HI_2 : MethodName := ⟨RJ8, "__HI", "(DI)D"⟩
def dkwJ8___HI_2_0 : List UInt8 := [38, 184, 0, 16, 66, 33, 20, 0, 22, 127, 28, 133, 16, 32, 121, 129, 184, 0, 24, 175]
abbrev dktJ8___HI_2_0 : List UInt8 := dkwJ8___HI_2_0 ++ []
theorem dksJ8___HI_2_0 : cJ8___HI_2.data.toList.drop 0 = dktJ8___HI_2_0 := by decide +kernel
theorem dJ8___HI_2_0 : decode cJ8___HI_2 0 = .ok (.dload_n 0, 1) := dk_38 (dk_at dksJ8___HI_2_0 0 rfl rfl)
theorem dJ8___HI_2_1 : decode cJ8___HI_2 1 = .ok (.invokestatic 16, 3) := dk_184 0 16 (dk_at dksJ8___HI_2_0 1 rfl rfl)
theorem dJ8___HI_2_4 : decode cJ8___HI_2 4 = .ok (.lstore_n 3, 1) := dk_66 (dk_at dksJ8___HI_2_0 4 rfl rfl)
theorem dJ8___HI_2_5 : decode cJ8___HI_2 5 = .ok (.lload_n 3, 1) := dk_33 (dk_at dksJ8___HI_2_0 5 rfl rfl)
theorem dJ8___HI_2_6 : decode cJ8___HI_2 6 = .ok (.ldc2_w 22, 3) := dk_20 0 22 (dk_at dksJ8___HI_2_0 6 rfl rfl)
theorem dJ8___HI_2_9 : decode cJ8___HI_2 9 = .ok (.land, 1) := dk_127 (dk_at dksJ8___HI_2_0 9 rfl rfl)
theorem dJ8___HI_2_10 : decode cJ8___HI_2 10 = .ok (.iload_n 2, 1) := dk_28 (dk_at dksJ8___HI_2_0 10 rfl rfl)
theorem dJ8___HI_2_11 : decode cJ8___HI_2 11 = .ok (.i2l, 1) := dk_133 (dk_at dksJ8___HI_2_0 11 rfl rfl)
theorem dJ8___HI_2_12 : decode cJ8___HI_2 12 = .ok (.bipush 32, 2) := dk_16 32 (dk_at dksJ8___HI_2_0 12 rfl rfl)
theorem dJ8___HI_2_14 : decode cJ8___HI_2 14 = .ok (.lshl, 1) := dk_121 (dk_at dksJ8___HI_2_0 14 rfl rfl)
theorem dJ8___HI_2_15 : decode cJ8___HI_2 15 = .ok (.lor, 1) := dk_129 (dk_at dksJ8___HI_2_0 15 rfl rfl)
theorem dJ8___HI_2_16 : decode cJ8___HI_2 16 = .ok (.invokestatic 24, 3) := dk_184 0 24 (dk_at dksJ8___HI_2_0 16 rfl rfl)
theorem dJ8___HI_2_19 : decode cJ8___HI_2 19 = .ok (.dreturn, 1) := dk_175 (dk_at dksJ8___HI_2_0 19 rfl rfl)
abbrev cJ8___HI_LO : ByteArray := prog_11_method_6_code
def yJ8___HI_LO : MethodName := ⟨RJ8, "__HI_LO", "(II)D"⟩
def dkwJ8___HI_LO_0 : List UInt8 := [26, 133, 16, 32, 121, 27, 133, 20, 0, 22, 127, 129, 184, 0, 24, 175]
abbrev dktJ8___HI_LO_0 : List UInt8 := dkwJ8___HI_LO_0 ++ []
theorem dksJ8___HI_LO_0 : cJ8___HI_LO.data.toList.drop 0 = dktJ8___HI_LO_0 := by decide +kernel
theorem dJ8___HI_LO_0 : decode cJ8___HI_LO 0 = .ok (.iload_n 0, 1) := dk_26 (dk_at dksJ8___HI_LO_0 0 rfl rfl)
theorem dJ8___HI_LO_1 : decode cJ8___HI_LO 1 = .ok (.i2l, 1) := dk_133 (dk_at dksJ8___HI_LO_0 1 rfl rfl)
theorem dJ8___HI_LO_2 : decode cJ8___HI_LO 2 = .ok (.bipush 32, 2) := dk_16 32 (dk_at dksJ8___HI_LO_0 2 rfl rfl)
theorem dJ8___HI_LO_4 : decode cJ8___HI_LO 4 = .ok (.lshl, 1) := dk_121 (dk_at dksJ8___HI_LO_0 4 rfl rfl)
theorem dJ8___HI_LO_5 : decode cJ8___HI_LO 5 = .ok (.iload_n 1, 1) := dk_27 (dk_at dksJ8___HI_LO_0 5 rfl rfl)
theorem dJ8___HI_LO_6 : decode cJ8___HI_LO 6 = .ok (.i2l, 1) := dk_133 (dk_at dksJ8___HI_LO_0 6 rfl rfl)
theorem dJ8___HI_LO_7 : decode cJ8___HI_LO 7 = .ok (.ldc2_w 22, 3) := dk_20 0 22 (dk_at dksJ8___HI_LO_0 7 rfl rfl)
theorem dJ8___HI_LO_10 : decode cJ8___HI_LO 10 = .ok (.land, 1) := dk_127 (dk_at dksJ8___HI_LO_0 10 rfl rfl)
theorem dJ8___HI_LO_11 : decode cJ8___HI_LO 11 = .ok (.lor, 1) := dk_129 (dk_at dksJ8___HI_LO_0 11 rfl rfl)
theorem dJ8___HI_LO_12 : decode cJ8___HI_LO 12 = .ok (.invokestatic 24, 3) := dk_184 0 24 (dk_at dksJ8___HI_LO_0 12 rfl rfl)
theorem dJ8___HI_LO_15 : decode cJ8___HI_LO 15 = .ok (.dreturn, 1) := dk_175 (dk_at dksJ8___HI_LO_0 15 rfl rfl)
theorem q49 : (Jvm.Cond.initialized "java/lang/FdLibm") ∈ lw_all := lw_g (lw_at lw_m1 10 rfl) rfl
theorem q180 : (Jvm.Cond.static ({ cls := "java/lang/FdLibm", name := "__HI", desc := "(D)I" } : Jvm.MethodName)) ∈ lw_all := lw_g (lw_at lw_m1 141 rfl) rfl
theorem q181 : (Jvm.Cond.code ({ cls := "java/lang/FdLibm", name := "__HI", desc := "(D)I" } : Jvm.MethodName) prog_11_method_4_code (4 : Nat) (Option.some Jvm.ClassFile.FieldType.int)) ∈ lw_all := lw_g (lw_at lw_m1 142 rfl) rfl
theorem q182 : (Jvm.Cond.methodLink "java/lang/FdLibm" (16 : Nat) ({ cls := "java/lang/Double", name := "doubleToRawLongBits", desc := "(D)J" } : Jvm.MethodName)) ∈ lw_all := lw_g (lw_at lw_m1 143 rfl) rfl
theorem q228 : (Jvm.Cond.static ({ cls := "java/lang/FdLibm", name := "__LO", desc := "(D)I" } : Jvm.MethodName)) ∈ lw_all := lw_g (lw_at lw_m1 189 rfl) rfl
theorem q229 : (Jvm.Cond.code ({ cls := "java/lang/FdLibm", name := "__LO", desc := "(D)I" } : Jvm.MethodName) prog_11_method_2_code (4 : Nat) (Option.some Jvm.ClassFile.FieldType.int)) ∈ lw_all := lw_g (lw_at lw_m1 190 rfl) rfl
theorem q231 : (Jvm.Cond.static ({ cls := "java/lang/FdLibm", name := "__LO", desc := "(DI)D" } : Jvm.MethodName)) ∈ lw_all := lw_g (lw_at lw_m1 192 rfl) rfl
theorem q232 : (Jvm.Cond.code ({ cls := "java/lang/FdLibm", name := "__LO", desc := "(DI)D" } : Jvm.MethodName) prog_11_method_3_code (5 : Nat) (Option.some Jvm.ClassFile.FieldType.double)) ∈ lw_all := lw_g (lw_at lw_m1 193 rfl) rfl
theorem q233 : (Jvm.Cond.constantLong "java/lang/FdLibm" (20 : Nat) (-4294967296 : Int64)) ∈ lw_all := lw_g (lw_at lw_m1 194 rfl) rfl
theorem q234 : (Jvm.Cond.constantLong "java/lang/FdLibm" (22 : Nat) (4294967295 : Int64)) ∈ lw_all := lw_g (lw_at lw_m1 195 rfl) rfl
theorem q235 : (Jvm.Cond.methodLink "java/lang/FdLibm" (24 : Nat) ({ cls := "java/lang/Double", name := "longBitsToDouble", desc := "(J)D" } : Jvm.MethodName)) ∈ lw_all := lw_g (lw_at lw_m1 196 rfl) rfl
theorem q237 : (Jvm.Cond.static ({ cls := "java/lang/FdLibm", name := "__HI", desc := "(DI)D" } : Jvm.MethodName)) ∈ lw_all := lw_g (lw_at lw_m1 198 rfl) rfl
theorem q238 : (Jvm.Cond.code ({ cls := "java/lang/FdLibm", name := "__HI", desc := "(DI)D" } : Jvm.MethodName) prog_11_method_5_code (5 : Nat) (Option.some Jvm.ClassFile.FieldType.double)) ∈ lw_all := lw_g (lw_at lw_m1 199 rfl) rfl
theorem q316 : (Jvm.Cond.static ({ cls := "java/lang/FdLibm", name := "__HI_LO", desc := "(II)D" } : Jvm.MethodName)) ∈ lw_all := lw_g (lw_at lw_m2 37 rfl) rfl
theorem q317 : (Jvm.Cond.code ({ cls := "java/lang/FdLibm", name := "__HI_LO", desc := "(II)D" } : Jvm.MethodName) prog_11_method_6_code (2 : Nat) (Option.some Jvm.ClassFile.FieldType.double)) ∈ lw_all := lw_g (lw_at lw_m2 38 rfl) rfl
/-! java/lang/Number -/
set_option maxRecDepth 100000
def RJ9 : String := "java/lang/Number"
abbrev cJ9_init : ByteArray := prog_22_method_1_code
def yJ9_init : MethodName := ⟨RJ9, "<init>", "()V"⟩
theorem dJ9_init_0 : decode cJ9_init 0 = .ok (.aload_n 0, 1) := by decide +kernel
theorem dJ9_init_1 : decode cJ9_init 1 = .ok (.invokespecial 1, 3) := by decide +kernel
theorem dJ9_init_4 : decode cJ9_init 4 = .ok (.return_, 1) := by decide +kernel
theorem q50 : (Jvm.Cond.initialized "java/lang/Number") ∈ lw_all := lw_g (lw_at lw_m1 11 rfl) rfl
theorem q432 : (Jvm.Cond.instanceMethod ({ cls := "java/lang/Number", name := "<init>", desc := "()V" } : Jvm.MethodName)) ∈ lw_all := lw_g (lw_at lw_m2 153 rfl) rfl
theorem q433 : (Jvm.Cond.code ({ cls := "java/lang/Number", name := "<init>", desc := "()V" } : Jvm.MethodName) prog_22_method_1_code (1 : Nat) (Option.none : Option Jvm.ClassFile.FieldType)) ∈ lw_all := lw_g (lw_at lw_m2 154 rfl) rfl
theorem q434 : (Jvm.Cond.methodLink "java/lang/Number" (1 : Nat) ({ cls := "java/lang/Object", name := "<init>", desc := "()V" } : Jvm.MethodName)) ∈ lw_all := lw_g (lw_at lw_m2 155 rfl) rfl
/-! java/lang/Double -/
set_option maxRecDepth 100000
def RJ10 : String := "java/lang/Double"
def TJ10 : u_T := fun k => match k with
  | _ => ("java/lang/Double", "value", "D", true)
def tyJ10 : Nat → FieldType := fun k => match k with
  | _ => .double
abbrev wsJ100 : List Cond := u_ws RJ10 TJ10 1
theorem nmJ10 : ∀ a, a < 1 → ∀ b, b < 1 → a ≠ b → (TJ10 a).2.1 ≠ (TJ10 b).2.1 := by decide +kernel
theorem tyJ10_ok : ∀ k, k < 1 → parseFieldDescriptor (TJ10 k).2.2.1 = some (tyJ10 k) := by decide +kernel
abbrev cJ10_doubleToLongBits : ByteArray := prog_9_method_23_code
def yJ10_doubleToLongBits : MethodName := ⟨RJ10, "doubleToLongBits", "(D)J"⟩
def dkwJ10_doubleToLongBits_0 : List UInt8 := [38, 184, 0, 122, 154, 0, 8, 38, 184, 0, 134, 173, 20, 0, 137, 173]
abbrev dktJ10_doubleToLongBits_0 : List UInt8 := dkwJ10_doubleToLongBits_0 ++ []
theorem dksJ10_doubleToLongBits_0 : cJ10_doubleToLongBits.data.toList.drop 0 = dktJ10_doubleToLongBits_0 := by decide +kernel
theorem dJ10_doubleToLongBits_0 : decode cJ10_doubleToLongBits 0 = .ok (.dload_n 0, 1) := dk_38 (dk_at dksJ10_doubleToLongBits_0 0 rfl rfl)
theorem dJ10_doubleToLongBits_1 : decode cJ10_doubleToLongBits 1 = .ok (.invokestatic 122, 3) := dk_184 0 122 (dk_at dksJ10_doubleToLongBits_0 1 rfl rfl)
theorem dJ10_doubleToLongBits_4 : decode cJ10_doubleToLongBits 4 = .ok (.ifCond .ne 8, 3) := dk_154 0 8 (dk_at dksJ10_doubleToLongBits_0 4 rfl rfl)
theorem dJ10_doubleToLongBits_7 : decode cJ10_doubleToLongBits 7 = .ok (.dload_n 0, 1) := dk_38 (dk_at dksJ10_doubleToLongBits_0 7 rfl rfl)
theorem dJ10_doubleToLongBits_8 : decode cJ10_doubleToLongBits 8 = .ok (.invokestatic 134, 3) := dk_184 0 134 (dk_at dksJ10_doubleToLongBits_0 8 rfl rfl)
theorem dJ10_doubleToLongBits_11 : decode cJ10_doubleToLongBits 11 = .ok (.lreturn, 1) := dk_173 (dk_at dksJ10_doubleToLongBits_0 11 rfl rfl)
theorem dJ10_doubleToLongBits_12 : decode cJ10_doubleToLongBits 12 = .ok (.ldc2_w 137, 3) := dk_20 0 137 (dk_at dksJ10_doubleToLongBits_0 12 rfl rfl)
theorem dJ10_doubleToLongBits_15 : decode cJ10_doubleToLongBits 15 = .ok (.lreturn, 1) := dk_173 (dk_at dksJ10_doubleToLongBits_0 15 rfl rfl)
abbrev cJ10_isNaN : ByteArray := prog_9_method_6_code
def yJ10_isNaN : MethodName := ⟨RJ10, "isNaN", "(D)Z"⟩
def dkwJ10_isNaN_0 : List UInt8 := [38, 38, 151, 153, 0, 7, 4, 167, 0, 4, 3, 172]
abbrev dktJ10_isNaN_0 : List UInt8 := dkwJ10_isNaN_0 ++ []
theorem dksJ10_isNaN_0 : cJ10_isNaN.data.toList.drop 0 = dktJ10_isNaN_0 := by decide +kernel
theorem dJ10_isNaN_0 : decode cJ10_isNaN 0 = .ok (.dload_n 0, 1) := dk_38 (dk_at dksJ10_isNaN_0 0 rfl rfl)
theorem dJ10_isNaN_1 : decode cJ10_isNaN 1 = .ok (.dload_n 0, 1) := dk_38 (dk_at dksJ10_isNaN_0 1 rfl rfl)
theorem dJ10_isNaN_2 : decode cJ10_isNaN 2 = .ok (.dcmp .l, 1) := dk_151 (dk_at dksJ10_isNaN_0 2 rfl rfl)
theorem dJ10_isNaN_3 : decode cJ10_isNaN 3 = .ok (.ifCond .eq 7, 3) := dk_153 0 7 (dk_at dksJ10_isNaN_0 3 rfl rfl)
theorem dJ10_isNaN_6 : decode cJ10_isNaN 6 = .ok (.iconst 1, 1) := dk_4 (dk_at dksJ10_isNaN_0 6 rfl rfl)
theorem dJ10_isNaN_7 : decode cJ10_isNaN 7 = .ok (.goto 4, 3) := dk_167 0 4 (dk_at dksJ10_isNaN_0 7 rfl rfl)
theorem dJ10_isNaN_10 : decode cJ10_isNaN 10 = .ok (.iconst 0, 1) := dk_3 (dk_at dksJ10_isNaN_0 10 rfl rfl)
theorem dJ10_isNaN_11 : decode cJ10_isNaN 11 = .ok (.ireturn, 1) := dk_172 (dk_at dksJ10_isNaN_0 11 rfl rfl)
abbrev cJ10_compare : ByteArray := prog_9_method_27_code
def yJ10_compare : MethodName := ⟨RJ10, "compare", "(DD)I"⟩
def dkwJ10_compare_2 : List UInt8 := [156, 0, 7, 2, 167, 0, 4, 4, 172]
abbrev dktJ10_compare_2 : List UInt8 := dkwJ10_compare_2 ++ []
def dkwJ10_compare_1 : List UInt8 := [184, 0, 46, 55, 6, 22, 4, 22, 6, 148, 154, 0, 7, 3, 167, 0, 16, 22, 4, 22, 6, 148]
abbrev dktJ10_compare_1 : List UInt8 := dkwJ10_compare_1 ++ dktJ10_compare_2
def dkwJ10_compare_0 : List UInt8 := [38, 40, 152, 156, 0, 5, 2, 172, 38, 40, 151, 158, 0, 5, 4, 172, 38, 184, 0, 46, 55, 4, 40]
abbrev dktJ10_compare_0 : List UInt8 := dkwJ10_compare_0 ++ dktJ10_compare_1
theorem dksJ10_compare_0 : cJ10_compare.data.toList.drop 0 = dktJ10_compare_0 := by decide +kernel
theorem dksJ10_compare_1 : cJ10_compare.data.toList.drop 23 = dktJ10_compare_1 := dk_seg dksJ10_compare_0 23 rfl rfl
theorem dksJ10_compare_2 : cJ10_compare.data.toList.drop 45 = dktJ10_compare_2 := dk_seg dksJ10_compare_1 22 rfl rfl
theorem dJ10_compare_0 : decode cJ10_compare 0 = .ok (.dload_n 0, 1) := dk_38 (dk_at dksJ10_compare_0 0 rfl rfl)
theorem dJ10_compare_1 : decode cJ10_compare 1 = .ok (.dload_n 2, 1) := dk_40 (dk_at dksJ10_compare_0 1 rfl rfl)
theorem dJ10_compare_2 : decode cJ10_compare 2 = .ok (.dcmp .g, 1) := dk_152 (dk_at dksJ10_compare_0 2 rfl rfl)
theorem dJ10_compare_3 : decode cJ10_compare 3 = .ok (.ifCond .ge 5, 3) := dk_156 0 5 (dk_at dksJ10_compare_0 3 rfl rfl)
theorem dJ10_compare_6 : decode cJ10_compare 6 = .ok (.iconst (-1), 1) := dk_2 (dk_at dksJ10_compare_0 6 rfl rfl)
theorem dJ10_compare_7 : decode cJ10_compare 7 = .ok (.ireturn, 1) := dk_172 (dk_at dksJ10_compare_0 7 rfl rfl)
theorem dJ10_compare_8 : decode cJ10_compare 8 = .ok (.dload_n 0, 1) := dk_38 (dk_at dksJ10_compare_0 8 rfl rfl)
theorem dJ10_compare_9 : decode cJ10_compare 9 = .ok (.dload_n 2, 1) := dk_40 (dk_at dksJ10_compare_0 9 rfl rfl)
theorem dJ10_compare_10 : decode cJ10_compare 10 = .ok (.dcmp .l, 1) := dk_151 (dk_at dksJ10_compare_0 10 rfl rfl)
theorem dJ10_compare_11 : decode cJ10_compare 11 = .ok (.ifCond .le 5, 3) := dk_158 0 5 (dk_at dksJ10_compare_0 11 rfl rfl)
theorem dJ10_compare_14 : decode cJ10_compare 14 = .ok (.iconst 1, 1) := dk_4 (dk_at dksJ10_compare_0 14 rfl rfl)
theorem dJ10_compare_15 : decode cJ10_compare 15 = .ok (.ireturn, 1) := dk_172 (dk_at dksJ10_compare_0 15 rfl rfl)
theorem dJ10_compare_16 : decode cJ10_compare 16 = .ok (.dload_n 0, 1) := dk_38 (dk_at dksJ10_compare_0 16 rfl rfl)
theorem dJ10_compare_17 : decode cJ10_compare 17 = .ok (.invokestatic 46, 3) := dk_184 0 46 (dk_at dksJ10_compare_0 17 rfl rfl)
theorem dJ10_compare_20 : decode cJ10_compare 20 = .ok (.lstore 4, 2) := dk_55 4 (dk_at dksJ10_compare_0 20 rfl rfl)
theorem dJ10_compare_22 : decode cJ10_compare 22 = .ok (.dload_n 2, 1) := dk_40 (dk_at dksJ10_compare_0 22 rfl rfl)
theorem dJ10_compare_23 : decode cJ10_compare 23 = .ok (.invokestatic 46, 3) := dk_184 0 46 (dk_at dksJ10_compare_1 0 rfl rfl)
theorem dJ10_compare_26 : decode cJ10_compare 26 = .ok (.lstore 6, 2) := dk_55 6 (dk_at dksJ10_compare_1 3 rfl rfl)
theorem dJ10_compare_28 : decode cJ10_compare 28 = .ok (.lload 4, 2) := dk_22 4 (dk_at dksJ10_compare_1 5 rfl rfl)
theorem dJ10_compare_30 : decode cJ10_compare 30 = .ok (.lload 6, 2) := dk_22 6 (dk_at dksJ10_compare_1 7 rfl rfl)
theorem dJ10_compare_32 : decode cJ10_compare 32 = .ok (.lcmp, 1) := dk_148 (dk_at dksJ10_compare_1 9 rfl rfl)
theorem dJ10_compare_33 : decode cJ10_compare 33 = .ok (.ifCond .ne 7, 3) := dk_154 0 7 (dk_at dksJ10_compare_1 10 rfl rfl)
theorem dJ10_compare_36 : decode cJ10_compare 36 = .ok (.iconst 0, 1) := dk_3 (dk_at dksJ10_compare_1 13 rfl rfl)
theorem dJ10_compare_37 : decode cJ10_compare 37 = .ok (.goto 16, 3) := dk_167 0 16 (dk_at dksJ10_compare_1 14 rfl rfl)
theorem dJ10_compare_40 : decode cJ10_compare 40 = .ok (.lload 4, 2) := dk_22 4 (dk_at dksJ10_compare_1 17 rfl rfl)
theorem dJ10_compare_42 : decode cJ10_compare 42 = .ok (.lload 6, 2) := dk_22 6 (dk_at dksJ10_compare_1 19 rfl rfl)
theorem dJ10_compare_44 : decode cJ10_compare 44 = .ok (.lcmp, 1) := dk_148 (dk_at dksJ10_compare_1 21 rfl rfl)
theorem dJ10_compare_45 : decode cJ10_compare 45 = .ok (.ifCond .ge 7, 3) := dk_156 0 7 (dk_at dksJ10_compare_2 0 rfl rfl)
theorem dJ10_compare_48 : decode cJ10_compare 48 = .ok (.iconst (-1), 1) := dk_2 (dk_at dksJ10_compare_2 3 rfl rfl)
theorem dJ10_compare_49 : decode cJ10_compare 49 = .ok (.goto 4, 3) := dk_167 0 4 (dk_at dksJ10_compare_2 4 rfl rfl)
theorem dJ10_compare_52 : decode cJ10_compare 52 = .ok (.iconst 1, 1) := dk_4 (dk_at dksJ10_compare_2 7 rfl rfl)
theorem dJ10_compare_53 : decode cJ10_compare 53 = .ok (.ireturn, 1) := dk_172 (dk_at dksJ10_compare_2 8 rfl rfl)
abbrev cJ10_valueOf : ByteArray := prog_9_method_4_code
def yJ10_valueOf : MethodName := ⟨RJ10, "valueOf", "(D)Ljava/lang/Double;"⟩
def dkwJ10_valueOf_0 : List UInt8 := [187, 0, 1, 89, 38, 183, 0, 105, 176]
abbrev dktJ10_valueOf_0 : List UInt8 := dkwJ10_valueOf_0 ++ []
theorem dksJ10_valueOf_0 : cJ10_valueOf.data.toList.drop 0 = dktJ10_valueOf_0 := by decide +kernel
theorem dJ10_valueOf_0 : decode cJ10_valueOf 0 = .ok (.new 1, 3) := dk_187 0 1 (dk_at dksJ10_valueOf_0 0 rfl rfl)
theorem dJ10_valueOf_3 : decode cJ10_valueOf 3 = .ok (.dup, 1) := dk_89 (dk_at dksJ10_valueOf_0 3 rfl rfl)
theorem dJ10_valueOf_4 : decode cJ10_valueOf 4 = .ok (.dload_n 0, 1) := dk_38 (dk_at dksJ10_valueOf_0 4 rfl rfl)
theorem dJ10_valueOf_5 : decode cJ10_valueOf 5 = .ok (.invokespecial 105, 3) := dk_183 0 105 (dk_at dksJ10_valueOf_0 5 rfl rfl)
theorem dJ10_valueOf_8 : decode cJ10_valueOf 8 = .ok (.areturn, 1) := dk_176 (dk_at dksJ10_valueOf_0 8 rfl rfl)
abbrev cJ10_init : ByteArray := prog_9_method_9_code
def yJ10_init : MethodName := ⟨RJ10, "<init>", "(D)V"⟩
def dkwJ10_init_0 : List UInt8 := [42, 183, 0, 113, 42, 39, 181, 0, 118, 177]
abbrev dktJ10_init_0 : List UInt8 := dkwJ10_init_0 ++ []
theorem dksJ10_init_0 : cJ10_init.data.toList.drop 0 = dktJ10_init_0 := by decide +kernel
theorem dJ10_init_0 : decode cJ10_init 0 = .ok (.aload_n 0, 1) := dk_42 (dk_at dksJ10_init_0 0 rfl rfl)
theorem dJ10_init_1 : decode cJ10_init 1 = .ok (.invokespecial 113, 3) := dk_183 0 113 (dk_at dksJ10_init_0 1 rfl rfl)
theorem dJ10_init_4 : decode cJ10_init 4 = .ok (.aload_n 0, 1) := dk_42 (dk_at dksJ10_init_0 4 rfl rfl)
theorem dJ10_init_5 : decode cJ10_init 5 = .ok (.dload_n 1, 1) := dk_39 (dk_at dksJ10_init_0 5 rfl rfl)
theorem dJ10_init_6 : decode cJ10_init 6 = .ok (.putfield 118, 3) := dk_181 0 118 (dk_at dksJ10_init_0 6 rfl rfl)
theorem dJ10_init_9 : decode cJ10_init 9 = .ok (.return_, 1) := dk_177 (dk_at dksJ10_init_0 9 rfl rfl)
abbrev cJ10_compareTo : ByteArray := prog_9_method_26_code
def yJ10_compareTo : MethodName := ⟨RJ10, "compareTo", "(Ljava/lang/Double;)I"⟩
def dkwJ10_compareTo_0 : List UInt8 := [42, 180, 0, 118, 43, 180, 0, 118, 184, 0, 139, 172]
abbrev dktJ10_compareTo_0 : List UInt8 := dkwJ10_compareTo_0 ++ []
theorem dksJ10_compareTo_0 : cJ10_compareTo.data.toList.drop 0 = dktJ10_compareTo_0 := by decide +kernel
theorem dJ10_compareTo_0 : decode cJ10_compareTo 0 = .ok (.aload_n 0, 1) := dk_42 (dk_at dksJ10_compareTo_0 0 rfl rfl)
theorem dJ10_compareTo_1 : decode cJ10_compareTo 1 = .ok (.getfield 118, 3) := dk_180 0 118 (dk_at dksJ10_compareTo_0 1 rfl rfl)
theorem dJ10_compareTo_4 : decode cJ10_compareTo 4 = .ok (.aload_n 1, 1) := dk_43 (dk_at dksJ10_compareTo_0 4 rfl rfl)
theorem dJ10_compareTo_5 : decode cJ10_compareTo 5 = .ok (.getfield 118, 3) := dk_180 0 118 (dk_at dksJ10_compareTo_0 5 rfl rfl)
theorem dJ10_compareTo_8 : decode cJ10_compareTo 8 = .ok (.invokestatic 139, 3) := dk_184 0 139 (dk_at dksJ10_compareTo_0 8 rfl rfl)
theorem dJ10_compareTo_11 : decode cJ10_compareTo 11 = .ok (.ireturn, 1) := dk_172 (dk_at dksJ10_compareTo_0 11 rfl rfl)
abbrev cJ10_sum : ByteArray := prog_9_method_28_code
def yJ10_sum : MethodName := ⟨RJ10, "sum", "(DD)D"⟩
def dkwJ10_sum_0 : List UInt8 := [38, 40, 99, 175]
abbrev dktJ10_sum_0 : List UInt8 := dkwJ10_sum_0 ++ []
theorem dksJ10_sum_0 : cJ10_sum.data.toList.drop 0 = dktJ10_sum_0 := by decide +kernel
theorem dJ10_sum_0 : decode cJ10_sum 0 = .ok (.dload_n 0, 1) := dk_38 (dk_at dksJ10_sum_0 0 rfl rfl)
theorem dJ10_sum_1 : decode cJ10_sum 1 = .ok (.dload_n 2, 1) := dk_40 (dk_at dksJ10_sum_0 1 rfl rfl)
theorem dJ10_sum_2 : decode cJ10_sum 2 = .ok (.dadd, 1) := dk_99 (dk_at dksJ10_sum_0 2 rfl rfl)
theorem dJ10_sum_3 : decode cJ10_sum 3 = .ok (.dreturn, 1) := dk_175 (dk_at dksJ10_sum_0 3 rfl rfl)
abbrev cJ10_equals : ByteArray := prog_9_method_22_code
def yJ10_equals : MethodName := ⟨RJ10, "equals", "(Ljava/lang/Object;)Z"⟩
def dkwJ10_equals_1 : List UInt8 := [148, 154, 0, 7, 4, 167, 0, 4, 3, 172]
abbrev dktJ10_equals_1 : List UInt8 := dkwJ10_equals_1 ++ []
def dkwJ10_equals_0 : List UInt8 := [43, 193, 0, 1, 153, 0, 28, 43, 192, 0, 1, 180, 0, 118, 184, 0, 46, 42, 180, 0, 118, 184, 0, 46]
abbrev dktJ10_equals_0 : List UInt8 := dkwJ10_equals_0 ++ dktJ10_equals_1
theorem dksJ10_equals_0 : cJ10_equals.data.toList.drop 0 = dktJ10_equals_0 := by decide +kernel
theorem dksJ10_equals_1 : cJ10_equals.data.toList.drop 24 = dktJ10_equals_1 := dk_seg dksJ10_equals_0 24 rfl rfl
theorem dJ10_equals_0 : decode cJ10_equals 0 = .ok (.aload_n 1, 1) := dk_43 (dk_at dksJ10_equals_0 0 rfl rfl)
theorem dJ10_equals_1 : decode cJ10_equals 1 = .ok (.instanceof 1, 3) := dk_193 0 1 (dk_at dksJ10_equals_0 1 rfl rfl)
theorem dJ10_equals_4 : decode cJ10_equals 4 = .ok (.ifCond .eq 28, 3) := dk_153 0 28 (dk_at dksJ10_equals_0 4 rfl rfl)
theorem dJ10_equals_7 : decode cJ10_equals 7 = .ok (.aload_n 1, 1) := dk_43 (dk_at dksJ10_equals_0 7 rfl rfl)
theorem dJ10_equals_8 : decode cJ10_equals 8 = .ok (.checkcast 1, 3) := dk_192 0 1 (dk_at dksJ10_equals_0 8 rfl rfl)
theorem dJ10_equals_11 : decode cJ10_equals 11 = .ok (.getfield 118, 3) := dk_180 0 118 (dk_at dksJ10_equals_0 11 rfl rfl)
theorem dJ10_equals_14 : decode cJ10_equals 14 = .ok (.invokestatic 46, 3) := dk_184 0 46 (dk_at dksJ10_equals_0 14 rfl rfl)
theorem dJ10_equals_17 : decode cJ10_equals 17 = .ok (.aload_n 0, 1) := dk_42 (dk_at dksJ10_equals_0 17 rfl rfl)
theorem dJ10_equals_18 : decode cJ10_equals 18 = .ok (.getfield 118, 3) := dk_180 0 118 (dk_at dksJ10_equals_0 18 rfl rfl)
theorem dJ10_equals_21 : decode cJ10_equals 21 = .ok (.invokestatic 46, 3) := dk_184 0 46 (dk_at dksJ10_equals_0 21 rfl rfl)
theorem dJ10_equals_24 : decode cJ10_equals 24 = .ok (.lcmp, 1) := dk_148 (dk_at dksJ10_equals_1 0 rfl rfl)
theorem dJ10_equals_25 : decode cJ10_equals 25 = .ok (.ifCond .ne 7, 3) := dk_154 0 7 (dk_at dksJ10_equals_1 1 rfl rfl)
theorem dJ10_equals_28 : decode cJ10_equals 28 = .ok (.iconst 1, 1) := dk_4 (dk_at dksJ10_equals_1 4 rfl rfl)
theorem dJ10_equals_29 : decode cJ10_equals 29 = .ok (.goto 4, 3) := dk_167 0 4 (dk_at dksJ10_equals_1 5 rfl rfl)
theorem dJ10_equals_32 : decode cJ10_equals 32 = .ok (.iconst 0, 1) := dk_3 (dk_at dksJ10_equals_1 8 rfl rfl)
theorem dJ10_equals_33 : decode cJ10_equals 33 = .ok (.ireturn, 1) := dk_172 (dk_at dksJ10_equals_1 9 rfl rfl)
abbrev cJ10_max : ByteArray := prog_9_method_29_code
def yJ10_max : MethodName := ⟨RJ10, "max", "(DD)D"⟩
def dkwJ10_max_0 : List UInt8 := [38, 40, 184, 0, 143, 175]
abbrev dktJ10_max_0 : List UInt8 := dkwJ10_max_0 ++ []
theorem dksJ10_max_0 : cJ10_max.data.toList.drop 0 = dktJ10_max_0 := by decide +kernel
theorem dJ10_max_0 : decode cJ10_max 0 = .ok (.dload_n 0, 1) := dk_38 (dk_at dksJ10_max_0 0 rfl rfl)
theorem dJ10_max_1 : decode cJ10_max 1 = .ok (.dload_n 2, 1) := dk_40 (dk_at dksJ10_max_0 1 rfl rfl)
theorem dJ10_max_2 : decode cJ10_max 2 = .ok (.invokestatic 143, 3) := dk_184 0 143 (dk_at dksJ10_max_0 2 rfl rfl)
theorem dJ10_max_5 : decode cJ10_max 5 = .ok (.dreturn, 1) := dk_175 (dk_at dksJ10_max_0 5 rfl rfl)
abbrev cJ10_min : ByteArray := prog_9_method_30_code
def yJ10_min : MethodName := ⟨RJ10, "min", "(DD)D"⟩
def dkwJ10_min_0 : List UInt8 := [38, 40, 184, 0, 146, 175]
abbrev dktJ10_min_0 : List UInt8 := dkwJ10_min_0 ++ []
theorem dksJ10_min_0 : cJ10_min.data.toList.drop 0 = dktJ10_min_0 := by decide +kernel
theorem dJ10_min_0 : decode cJ10_min 0 = .ok (.dload_n 0, 1) := dk_38 (dk_at dksJ10_min_0 0 rfl rfl)
theorem dJ10_min_1 : decode cJ10_min 1 = .ok (.dload_n 2, 1) := dk_40 (dk_at dksJ10_min_0 1 rfl rfl)
theorem dJ10_min_2 : decode cJ10_min 2 = .ok (.invokestatic 146, 3) := dk_184 0 146 (dk_at dksJ10_min_0 2 rfl rfl)
theorem dJ10_min_5 : decode cJ10_min 5 = .ok (.dreturn, 1) := dk_175 (dk_at dksJ10_min_0 5 rfl rfl)
theorem q51 : (Jvm.Cond.initialized "java/lang/Double") ∈ lw_all := lw_g (lw_at lw_m1 12 rfl) rfl
theorem q183 : (Jvm.Cond.static ({ cls := "java/lang/Double", name := "doubleToRawLongBits", desc := "(D)J" } : Jvm.MethodName)) ∈ lw_all := lw_g (lw_at lw_m1 144 rfl) rfl
theorem q184 : (Jvm.Cond.native ({ cls := "java/lang/Double", name := "doubleToRawLongBits", desc := "(D)J" } : Jvm.MethodName)) ∈ lw_all := lw_g (lw_at lw_m1 145 rfl) rfl
theorem q218 : (Jvm.Cond.static ({ cls := "java/lang/Double", name := "longBitsToDouble", desc := "(J)D" } : Jvm.MethodName)) ∈ lw_all := lw_g (lw_at lw_m1 179 rfl) rfl
theorem q219 : (Jvm.Cond.native ({ cls := "java/lang/Double", name := "longBitsToDouble", desc := "(J)D" } : Jvm.MethodName)) ∈ lw_all := lw_g (lw_at lw_m1 180 rfl) rfl
theorem q367 : (Jvm.Cond.static ({ cls := "java/lang/Double", name := "doubleToLongBits", desc := "(D)J" } : Jvm.MethodName)) ∈ lw_all := lw_g (lw_at lw_m2 88 rfl) rfl
theorem q368 : (Jvm.Cond.code ({ cls := "java/lang/Double", name := "doubleToLongBits", desc := "(D)J" } : Jvm.MethodName) prog_9_method_23_code (2 : Nat) (Option.some Jvm.ClassFile.FieldType.long)) ∈ lw_all := lw_g (lw_at lw_m2 89 rfl) rfl
theorem q369 : (Jvm.Cond.methodLink "java/lang/Double" (122 : Nat) ({ cls := "java/lang/Double", name := "isNaN", desc := "(D)Z" } : Jvm.MethodName)) ∈ lw_all := lw_g (lw_at lw_m2 90 rfl) rfl
theorem q370 : (Jvm.Cond.static ({ cls := "java/lang/Double", name := "isNaN", desc := "(D)Z" } : Jvm.MethodName)) ∈ lw_all := lw_g (lw_at lw_m2 91 rfl) rfl
theorem q371 : (Jvm.Cond.code ({ cls := "java/lang/Double", name := "isNaN", desc := "(D)Z" } : Jvm.MethodName) prog_9_method_6_code (2 : Nat) (Option.some Jvm.ClassFile.FieldType.boolean)) ∈ lw_all := lw_g (lw_at lw_m2 92 rfl) rfl
theorem q372 : (Jvm.Cond.methodLink "java/lang/Double" (134 : Nat) ({ cls := "java/lang/Double", name := "doubleToRawLongBits", desc := "(D)J" } : Jvm.MethodName)) ∈ lw_all := lw_g (lw_at lw_m2 93 rfl) rfl
theorem q373 : (Jvm.Cond.constantLong "java/lang/Double" (137 : Nat) (9221120237041090560 : Int64)) ∈ lw_all := lw_g (lw_at lw_m2 94 rfl) rfl
theorem q1295 : (Jvm.Cond.static ({ cls := "java/lang/Double", name := "compare", desc := "(DD)I" } : Jvm.MethodName)) ∈ lw_all := lw_g (lw_at lw_m6 56 rfl) rfl
theorem q1296 : (Jvm.Cond.code ({ cls := "java/lang/Double", name := "compare", desc := "(DD)I" } : Jvm.MethodName) prog_9_method_27_code (8 : Nat) (Option.some Jvm.ClassFile.FieldType.int)) ∈ lw_all := lw_g (lw_at lw_m6 57 rfl) rfl
theorem q1297 : (Jvm.Cond.methodLink "java/lang/Double" (46 : Nat) ({ cls := "java/lang/Double", name := "doubleToLongBits", desc := "(D)J" } : Jvm.MethodName)) ∈ lw_all := lw_g (lw_at lw_m6 58 rfl) rfl
theorem q1302 : (Jvm.Cond.static ({ cls := "java/lang/Double", name := "valueOf", desc := "(D)Ljava/lang/Double;" } : Jvm.MethodName)) ∈ lw_all := lw_g (lw_at lw_m6 63 rfl) rfl
theorem q1303 : (Jvm.Cond.code ({ cls := "java/lang/Double", name := "valueOf", desc := "(D)Ljava/lang/Double;" } : Jvm.MethodName) prog_9_method_4_code (2 : Nat) (Option.some (Jvm.ClassFile.FieldType.object "java/lang/Double"))) ∈ lw_all := lw_g (lw_at lw_m6 64 rfl) rfl
theorem q1304 : (Jvm.Cond.classLink "java/lang/Double" (1 : Nat) "java/lang/Double") ∈ lw_all := lw_g (lw_at lw_m6 65 rfl) rfl
theorem q1305 : (Jvm.Cond.instantiable "java/lang/Double" (1 : Nat)) ∈ lw_all := lw_g (lw_at lw_m6 66 rfl) rfl
theorem q1306 : (Jvm.Cond.methodLink "java/lang/Double" (105 : Nat) ({ cls := "java/lang/Double", name := "<init>", desc := "(D)V" } : Jvm.MethodName)) ∈ lw_all := lw_g (lw_at lw_m6 67 rfl) rfl
theorem q1307 : (Jvm.Cond.instanceMethod ({ cls := "java/lang/Double", name := "<init>", desc := "(D)V" } : Jvm.MethodName)) ∈ lw_all := lw_g (lw_at lw_m6 68 rfl) rfl
theorem q1308 : (Jvm.Cond.code ({ cls := "java/lang/Double", name := "<init>", desc := "(D)V" } : Jvm.MethodName) prog_9_method_9_code (3 : Nat) (Option.none : Option Jvm.ClassFile.FieldType)) ∈ lw_all := lw_g (lw_at lw_m6 69 rfl) rfl
theorem q1309 : (Jvm.Cond.methodLink "java/lang/Double" (113 : Nat) ({ cls := "java/lang/Number", name := "<init>", desc := "()V" } : Jvm.MethodName)) ∈ lw_all := lw_g (lw_at lw_m6 70 rfl) rfl
theorem q1310 : (Jvm.Cond.fieldLink "java/lang/Double" (118 : Nat) "java/lang/Double" "value" "D") ∈ lw_all := lw_g (lw_at lw_m6 71 rfl) rfl
theorem q1311 : (Jvm.Cond.laysFinal "java/lang/Double" "java/lang/Double" "value" "D") ∈ lw_all := lw_g (lw_at lw_m6 72 rfl) rfl
theorem q1312 : (Jvm.Cond.soleField "java/lang/Double" "value") ∈ lw_all := lw_g (lw_at lw_m6 73 rfl) rfl
theorem q1313 : (Jvm.Cond.superclass "java/lang/Double" "java/lang/Number") ∈ lw_all := lw_g (lw_at lw_m6 74 rfl) rfl
theorem q1315 : (Jvm.Cond.instanceMethod ({ cls := "java/lang/Double", name := "compareTo", desc := "(Ljava/lang/Double;)I" } : Jvm.MethodName)) ∈ lw_all := lw_g (lw_at lw_m6 76 rfl) rfl
theorem q1316 : (Jvm.Cond.selects "java/lang/Double" ({ cls := "java/lang/Double", name := "compareTo", desc := "(Ljava/lang/Double;)I" } : Jvm.MethodName) ({ cls := "java/lang/Double", name := "compareTo", desc := "(Ljava/lang/Double;)I" } : Jvm.MethodName)) ∈ lw_all := lw_g (lw_at lw_m6 77 rfl) rfl
theorem q1317 : (Jvm.Cond.code ({ cls := "java/lang/Double", name := "compareTo", desc := "(Ljava/lang/Double;)I" } : Jvm.MethodName) prog_9_method_26_code (2 : Nat) (Option.some Jvm.ClassFile.FieldType.int)) ∈ lw_all := lw_g (lw_at lw_m6 78 rfl) rfl
theorem q1318 : (Jvm.Cond.methodLink "java/lang/Double" (139 : Nat) ({ cls := "java/lang/Double", name := "compare", desc := "(DD)I" } : Jvm.MethodName)) ∈ lw_all := lw_g (lw_at lw_m6 79 rfl) rfl
theorem q1367 : (Jvm.Cond.static ({ cls := "java/lang/Double", name := "sum", desc := "(DD)D" } : Jvm.MethodName)) ∈ lw_all := lw_g (lw_at lw_m6 128 rfl) rfl
theorem q1368 : (Jvm.Cond.code ({ cls := "java/lang/Double", name := "sum", desc := "(DD)D" } : Jvm.MethodName) prog_9_method_28_code (4 : Nat) (Option.some Jvm.ClassFile.FieldType.double)) ∈ lw_all := lw_g (lw_at lw_m6 129 rfl) rfl
theorem q1427 : (Jvm.Cond.instanceMethod ({ cls := "java/lang/Double", name := "equals", desc := "(Ljava/lang/Object;)Z" } : Jvm.MethodName)) ∈ lw_all := lw_g (lw_at lw_m6 188 rfl) rfl
theorem q1428 : (Jvm.Cond.selects "java/lang/Double" ({ cls := "java/lang/Double", name := "equals", desc := "(Ljava/lang/Object;)Z" } : Jvm.MethodName) ({ cls := "java/lang/Double", name := "equals", desc := "(Ljava/lang/Object;)Z" } : Jvm.MethodName)) ∈ lw_all := lw_g (lw_at lw_m6 189 rfl) rfl
theorem q1429 : (Jvm.Cond.code ({ cls := "java/lang/Double", name := "equals", desc := "(Ljava/lang/Object;)Z" } : Jvm.MethodName) prog_9_method_22_code (2 : Nat) (Option.some Jvm.ClassFile.FieldType.boolean)) ∈ lw_all := lw_g (lw_at lw_m6 190 rfl) rfl
theorem q1437 : (Jvm.Cond.selects "java/lang/Double" ({ cls := "java/lang/Object", name := "equals", desc := "(Ljava/lang/Object;)Z" } : Jvm.MethodName) ({ cls := "java/lang/Double", name := "equals", desc := "(Ljava/lang/Object;)Z" } : Jvm.MethodName)) ∈ lw_all := lw_g (lw_at lw_m6 198 rfl) rfl
theorem q1717 : (Jvm.Cond.static ({ cls := "java/lang/Double", name := "max", desc := "(DD)D" } : Jvm.MethodName)) ∈ lw_all := lw_g (lw_at lw_m7 238 rfl) rfl
theorem q1718 : (Jvm.Cond.code ({ cls := "java/lang/Double", name := "max", desc := "(DD)D" } : Jvm.MethodName) prog_9_method_29_code (4 : Nat) (Option.some Jvm.ClassFile.FieldType.double)) ∈ lw_all := lw_g (lw_at lw_m7 239 rfl) rfl
theorem q1719 : (Jvm.Cond.methodLink "java/lang/Double" (143 : Nat) ({ cls := "java/lang/Math", name := "max", desc := "(DD)D" } : Jvm.MethodName)) ∈ lw_all := lw_g (lw_at lw_m8 0 rfl) rfl
theorem q1746 : (Jvm.Cond.static ({ cls := "java/lang/Double", name := "min", desc := "(DD)D" } : Jvm.MethodName)) ∈ lw_all := lw_g (lw_at lw_m8 27 rfl) rfl
theorem q1747 : (Jvm.Cond.code ({ cls := "java/lang/Double", name := "min", desc := "(DD)D" } : Jvm.MethodName) prog_9_method_30_code (4 : Nat) (Option.some Jvm.ClassFile.FieldType.double)) ∈ lw_all := lw_g (lw_at lw_m8 28 rfl) rfl
theorem q1748 : (Jvm.Cond.methodLink "java/lang/Double" (146 : Nat) ({ cls := "java/lang/Math", name := "min", desc := "(DD)D" } : Jvm.MethodName)) ∈ lw_all := lw_g (lw_at lw_m8 29 rfl) rfl
theorem in_J10 : ∀ w ∈ wsJ100, w ∈ lw_all := lw_in wsJ100 [1311] (by decide +kernel) (by decide +kernel)
/-! java/lang/Math -/
set_option maxRecDepth 100000
def RJ12 : String := "java/lang/Math"
abbrev cJ12_abs : ByteArray := prog_21_method_64_code
def yJ12_abs : MethodName := ⟨RJ12, "abs", "(D)D"⟩
def dkwJ12_abs_0 : List UInt8 := [38, 184, 0, 79, 20, 0, 135, 127, 184, 0, 166, 175]
abbrev dktJ12_abs_0 : List UInt8 := dkwJ12_abs_0 ++ []
theorem dksJ12_abs_0 : cJ12_abs.data.toList.drop 0 = dktJ12_abs_0 := by decide +kernel
theorem dJ12_abs_0 : decode cJ12_abs 0 = .ok (.dload_n 0, 1) := dk_38 (dk_at dksJ12_abs_0 0 rfl rfl)
theorem dJ12_abs_1 : decode cJ12_abs 1 = .ok (.invokestatic 79, 3) := dk_184 0 79 (dk_at dksJ12_abs_0 1 rfl rfl)
theorem dJ12_abs_4 : decode cJ12_abs 4 = .ok (.ldc2_w 135, 3) := dk_20 0 135 (dk_at dksJ12_abs_0 4 rfl rfl)
theorem dJ12_abs_7 : decode cJ12_abs 7 = .ok (.land, 1) := dk_127 (dk_at dksJ12_abs_0 7 rfl rfl)
theorem dJ12_abs_8 : decode cJ12_abs 8 = .ok (.invokestatic 166, 3) := dk_184 0 166 (dk_at dksJ12_abs_0 8 rfl rfl)
theorem dJ12_abs_11 : decode cJ12_abs 11 = .ok (.dreturn, 1) := dk_175 (dk_at dksJ12_abs_0 11 rfl rfl)
abbrev cJ12_scalb : ByteArray := prog_21_method_99_code
def yJ12_scalb : MethodName := ⟨RJ12, "scalb", "(DI)D"⟩
def dkwJ12_scalb_4 : List UInt8 := [153, 0, 16, 38, 24, 6, 107, 71, 28, 21, 5, 100, 61, 167, 255, 242, 38, 175]
abbrev dktJ12_scalb_4 : List UInt8 := dkwJ12_scalb_4 ++ []
def dkwJ12_scalb_3 : List UInt8 := [17, 1, 255, 126, 21, 8, 100, 54, 4, 38, 21, 4, 184, 1, 30, 107, 71, 28, 21, 4, 100, 61, 28]
abbrev dktJ12_scalb_3 : List UInt8 := dkwJ12_scalb_3 ++ dktJ12_scalb_4
def dkwJ12_scalb_2 : List UInt8 := [61, 17, 2, 0, 54, 5, 178, 1, 86, 57, 6, 28, 16, 8, 122, 16, 23, 124, 54, 8, 28, 21, 8, 96]
abbrev dktJ12_scalb_2 : List UInt8 := dkwJ12_scalb_2 ++ dktJ12_scalb_3
def dkwJ12_scalb_1 : List UInt8 := [184, 1, 77, 61, 17, 254, 0, 54, 5, 178, 1, 80, 57, 6, 167, 0, 21, 28, 17, 8, 51, 184, 1, 84]
abbrev dktJ12_scalb_1 : List UInt8 := dkwJ12_scalb_1 ++ dktJ12_scalb_2
def dkwJ12_scalb_0 : List UInt8 := [17, 8, 51, 62, 3, 54, 4, 3, 54, 5, 20, 0, 238, 57, 6, 28, 156, 0, 24, 28, 17, 247, 205]
abbrev dktJ12_scalb_0 : List UInt8 := dkwJ12_scalb_0 ++ dktJ12_scalb_1
theorem dksJ12_scalb_0 : cJ12_scalb.data.toList.drop 0 = dktJ12_scalb_0 := by decide +kernel
theorem dksJ12_scalb_1 : cJ12_scalb.data.toList.drop 23 = dktJ12_scalb_1 := dk_seg dksJ12_scalb_0 23 rfl rfl
theorem dksJ12_scalb_2 : cJ12_scalb.data.toList.drop 47 = dktJ12_scalb_2 := dk_seg dksJ12_scalb_1 24 rfl rfl
theorem dksJ12_scalb_3 : cJ12_scalb.data.toList.drop 71 = dktJ12_scalb_3 := dk_seg dksJ12_scalb_2 24 rfl rfl
theorem dksJ12_scalb_4 : cJ12_scalb.data.toList.drop 94 = dktJ12_scalb_4 := dk_seg dksJ12_scalb_3 23 rfl rfl
theorem dJ12_scalb_0 : decode cJ12_scalb 0 = .ok (.sipush 2099, 3) := dk_17 8 51 (dk_at dksJ12_scalb_0 0 rfl rfl)
theorem dJ12_scalb_3 : decode cJ12_scalb 3 = .ok (.istore_n 3, 1) := dk_62 (dk_at dksJ12_scalb_0 3 rfl rfl)
theorem dJ12_scalb_4 : decode cJ12_scalb 4 = .ok (.iconst 0, 1) := dk_3 (dk_at dksJ12_scalb_0 4 rfl rfl)
theorem dJ12_scalb_5 : decode cJ12_scalb 5 = .ok (.istore 4, 2) := dk_54 4 (dk_at dksJ12_scalb_0 5 rfl rfl)
theorem dJ12_scalb_7 : decode cJ12_scalb 7 = .ok (.iconst 0, 1) := dk_3 (dk_at dksJ12_scalb_0 7 rfl rfl)
theorem dJ12_scalb_8 : decode cJ12_scalb 8 = .ok (.istore 5, 2) := dk_54 5 (dk_at dksJ12_scalb_0 8 rfl rfl)
theorem dJ12_scalb_10 : decode cJ12_scalb 10 = .ok (.ldc2_w 238, 3) := dk_20 0 238 (dk_at dksJ12_scalb_0 10 rfl rfl)
theorem dJ12_scalb_13 : decode cJ12_scalb 13 = .ok (.dstore 6, 2) := dk_57 6 (dk_at dksJ12_scalb_0 13 rfl rfl)
theorem dJ12_scalb_15 : decode cJ12_scalb 15 = .ok (.iload_n 2, 1) := dk_28 (dk_at dksJ12_scalb_0 15 rfl rfl)
theorem dJ12_scalb_16 : decode cJ12_scalb 16 = .ok (.ifCond .ge 24, 3) := dk_156 0 24 (dk_at dksJ12_scalb_0 16 rfl rfl)
theorem dJ12_scalb_19 : decode cJ12_scalb 19 = .ok (.iload_n 2, 1) := dk_28 (dk_at dksJ12_scalb_0 19 rfl rfl)
theorem dJ12_scalb_20 : decode cJ12_scalb 20 = .ok (.sipush (-2099), 3) := dk_17 247 205 (dk_at dksJ12_scalb_0 20 rfl rfl)
theorem dJ12_scalb_23 : decode cJ12_scalb 23 = .ok (.invokestatic 333, 3) := dk_184 1 77 (dk_at dksJ12_scalb_1 0 rfl rfl)
theorem dJ12_scalb_26 : decode cJ12_scalb 26 = .ok (.istore_n 2, 1) := dk_61 (dk_at dksJ12_scalb_1 3 rfl rfl)
theorem dJ12_scalb_27 : decode cJ12_scalb 27 = .ok (.sipush (-512), 3) := dk_17 254 0 (dk_at dksJ12_scalb_1 4 rfl rfl)
theorem dJ12_scalb_30 : decode cJ12_scalb 30 = .ok (.istore 5, 2) := dk_54 5 (dk_at dksJ12_scalb_1 7 rfl rfl)
theorem dJ12_scalb_32 : decode cJ12_scalb 32 = .ok (.getstatic 336, 3) := dk_178 1 80 (dk_at dksJ12_scalb_1 9 rfl rfl)
theorem dJ12_scalb_35 : decode cJ12_scalb 35 = .ok (.dstore 6, 2) := dk_57 6 (dk_at dksJ12_scalb_1 12 rfl rfl)
theorem dJ12_scalb_37 : decode cJ12_scalb 37 = .ok (.goto 21, 3) := dk_167 0 21 (dk_at dksJ12_scalb_1 14 rfl rfl)
theorem dJ12_scalb_40 : decode cJ12_scalb 40 = .ok (.iload_n 2, 1) := dk_28 (dk_at dksJ12_scalb_1 17 rfl rfl)
theorem dJ12_scalb_41 : decode cJ12_scalb 41 = .ok (.sipush 2099, 3) := dk_17 8 51 (dk_at dksJ12_scalb_1 18 rfl rfl)
theorem dJ12_scalb_44 : decode cJ12_scalb 44 = .ok (.invokestatic 340, 3) := dk_184 1 84 (dk_at dksJ12_scalb_1 21 rfl rfl)
theorem dJ12_scalb_47 : decode cJ12_scalb 47 = .ok (.istore_n 2, 1) := dk_61 (dk_at dksJ12_scalb_2 0 rfl rfl)
theorem dJ12_scalb_48 : decode cJ12_scalb 48 = .ok (.sipush 512, 3) := dk_17 2 0 (dk_at dksJ12_scalb_2 1 rfl rfl)
theorem dJ12_scalb_51 : decode cJ12_scalb 51 = .ok (.istore 5, 2) := dk_54 5 (dk_at dksJ12_scalb_2 4 rfl rfl)
theorem dJ12_scalb_53 : decode cJ12_scalb 53 = .ok (.getstatic 342, 3) := dk_178 1 86 (dk_at dksJ12_scalb_2 6 rfl rfl)
theorem dJ12_scalb_56 : decode cJ12_scalb 56 = .ok (.dstore 6, 2) := dk_57 6 (dk_at dksJ12_scalb_2 9 rfl rfl)
theorem dJ12_scalb_58 : decode cJ12_scalb 58 = .ok (.iload_n 2, 1) := dk_28 (dk_at dksJ12_scalb_2 11 rfl rfl)
theorem dJ12_scalb_59 : decode cJ12_scalb 59 = .ok (.bipush 8, 2) := dk_16 8 (dk_at dksJ12_scalb_2 12 rfl rfl)
theorem dJ12_scalb_61 : decode cJ12_scalb 61 = .ok (.ishr, 1) := dk_122 (dk_at dksJ12_scalb_2 14 rfl rfl)
theorem dJ12_scalb_62 : decode cJ12_scalb 62 = .ok (.bipush 23, 2) := dk_16 23 (dk_at dksJ12_scalb_2 15 rfl rfl)
theorem dJ12_scalb_64 : decode cJ12_scalb 64 = .ok (.iushr, 1) := dk_124 (dk_at dksJ12_scalb_2 17 rfl rfl)
theorem dJ12_scalb_65 : decode cJ12_scalb 65 = .ok (.istore 8, 2) := dk_54 8 (dk_at dksJ12_scalb_2 18 rfl rfl)
theorem dJ12_scalb_67 : decode cJ12_scalb 67 = .ok (.iload_n 2, 1) := dk_28 (dk_at dksJ12_scalb_2 20 rfl rfl)
theorem dJ12_scalb_68 : decode cJ12_scalb 68 = .ok (.iload 8, 2) := dk_21 8 (dk_at dksJ12_scalb_2 21 rfl rfl)
theorem dJ12_scalb_70 : decode cJ12_scalb 70 = .ok (.iadd, 1) := dk_96 (dk_at dksJ12_scalb_2 23 rfl rfl)
theorem dJ12_scalb_71 : decode cJ12_scalb 71 = .ok (.sipush 511, 3) := dk_17 1 255 (dk_at dksJ12_scalb_3 0 rfl rfl)
theorem dJ12_scalb_74 : decode cJ12_scalb 74 = .ok (.iand, 1) := dk_126 (dk_at dksJ12_scalb_3 3 rfl rfl)
theorem dJ12_scalb_75 : decode cJ12_scalb 75 = .ok (.iload 8, 2) := dk_21 8 (dk_at dksJ12_scalb_3 4 rfl rfl)
theorem dJ12_scalb_77 : decode cJ12_scalb 77 = .ok (.isub, 1) := dk_100 (dk_at dksJ12_scalb_3 6 rfl rfl)
theorem dJ12_scalb_78 : decode cJ12_scalb 78 = .ok (.istore 4, 2) := dk_54 4 (dk_at dksJ12_scalb_3 7 rfl rfl)
theorem dJ12_scalb_80 : decode cJ12_scalb 80 = .ok (.dload_n 0, 1) := dk_38 (dk_at dksJ12_scalb_3 9 rfl rfl)
theorem dJ12_scalb_81 : decode cJ12_scalb 81 = .ok (.iload 4, 2) := dk_21 4 (dk_at dksJ12_scalb_3 10 rfl rfl)
theorem dJ12_scalb_83 : decode cJ12_scalb 83 = .ok (.invokestatic 286, 3) := dk_184 1 30 (dk_at dksJ12_scalb_3 12 rfl rfl)
theorem dJ12_scalb_86 : decode cJ12_scalb 86 = .ok (.dmul, 1) := dk_107 (dk_at dksJ12_scalb_3 15 rfl rfl)
theorem dJ12_scalb_87 : decode cJ12_scalb 87 = .ok (.dstore_n 0, 1) := dk_71 (dk_at dksJ12_scalb_3 16 rfl rfl)
theorem dJ12_scalb_88 : decode cJ12_scalb 88 = .ok (.iload_n 2, 1) := dk_28 (dk_at dksJ12_scalb_3 17 rfl rfl)
theorem dJ12_scalb_89 : decode cJ12_scalb 89 = .ok (.iload 4, 2) := dk_21 4 (dk_at dksJ12_scalb_3 18 rfl rfl)
theorem dJ12_scalb_91 : decode cJ12_scalb 91 = .ok (.isub, 1) := dk_100 (dk_at dksJ12_scalb_3 20 rfl rfl)
theorem dJ12_scalb_92 : decode cJ12_scalb 92 = .ok (.istore_n 2, 1) := dk_61 (dk_at dksJ12_scalb_3 21 rfl rfl)
theorem dJ12_scalb_93 : decode cJ12_scalb 93 = .ok (.iload_n 2, 1) := dk_28 (dk_at dksJ12_scalb_3 22 rfl rfl)
theorem dJ12_scalb_94 : decode cJ12_scalb 94 = .ok (.ifCond .eq 16, 3) := dk_153 0 16 (dk_at dksJ12_scalb_4 0 rfl rfl)
theorem dJ12_scalb_97 : decode cJ12_scalb 97 = .ok (.dload_n 0, 1) := dk_38 (dk_at dksJ12_scalb_4 3 rfl rfl)
theorem dJ12_scalb_98 : decode cJ12_scalb 98 = .ok (.dload 6, 2) := dk_24 6 (dk_at dksJ12_scalb_4 4 rfl rfl)
theorem dJ12_scalb_100 : decode cJ12_scalb 100 = .ok (.dmul, 1) := dk_107 (dk_at dksJ12_scalb_4 6 rfl rfl)
theorem dJ12_scalb_101 : decode cJ12_scalb 101 = .ok (.dstore_n 0, 1) := dk_71 (dk_at dksJ12_scalb_4 7 rfl rfl)
theorem dJ12_scalb_102 : decode cJ12_scalb 102 = .ok (.iload_n 2, 1) := dk_28 (dk_at dksJ12_scalb_4 8 rfl rfl)
theorem dJ12_scalb_103 : decode cJ12_scalb 103 = .ok (.iload 5, 2) := dk_21 5 (dk_at dksJ12_scalb_4 9 rfl rfl)
theorem dJ12_scalb_105 : decode cJ12_scalb 105 = .ok (.isub, 1) := dk_100 (dk_at dksJ12_scalb_4 11 rfl rfl)
theorem dJ12_scalb_106 : decode cJ12_scalb 106 = .ok (.istore_n 2, 1) := dk_61 (dk_at dksJ12_scalb_4 12 rfl rfl)
theorem dJ12_scalb_107 : decode cJ12_scalb 107 = .ok (.goto (-14), 3) := dk_167 255 242 (dk_at dksJ12_scalb_4 13 rfl rfl)
theorem dJ12_scalb_110 : decode cJ12_scalb 110 = .ok (.dload_n 0, 1) := dk_38 (dk_at dksJ12_scalb_4 16 rfl rfl)
theorem dJ12_scalb_111 : decode cJ12_scalb 111 = .ok (.dreturn, 1) := dk_175 (dk_at dksJ12_scalb_4 17 rfl rfl)
abbrev cJ12_max : ByteArray := prog_21_method_65_code
def yJ12_max : MethodName := ⟨RJ12, "max", "(II)I"⟩
def dkwJ12_max_0 : List UInt8 := [26, 27, 161, 0, 7, 26, 167, 0, 4, 27, 172]
abbrev dktJ12_max_0 : List UInt8 := dkwJ12_max_0 ++ []
theorem dksJ12_max_0 : cJ12_max.data.toList.drop 0 = dktJ12_max_0 := by decide +kernel
theorem dJ12_max_0 : decode cJ12_max 0 = .ok (.iload_n 0, 1) := dk_26 (dk_at dksJ12_max_0 0 rfl rfl)
theorem dJ12_max_1 : decode cJ12_max 1 = .ok (.iload_n 1, 1) := dk_27 (dk_at dksJ12_max_0 1 rfl rfl)
theorem dJ12_max_2 : decode cJ12_max 2 = .ok (.if_icmp .lt 7, 3) := dk_161 0 7 (dk_at dksJ12_max_0 2 rfl rfl)
theorem dJ12_max_5 : decode cJ12_max 5 = .ok (.iload_n 0, 1) := dk_26 (dk_at dksJ12_max_0 5 rfl rfl)
theorem dJ12_max_6 : decode cJ12_max 6 = .ok (.goto 4, 3) := dk_167 0 4 (dk_at dksJ12_max_0 6 rfl rfl)
theorem dJ12_max_9 : decode cJ12_max 9 = .ok (.iload_n 1, 1) := dk_27 (dk_at dksJ12_max_0 9 rfl rfl)
theorem dJ12_max_10 : decode cJ12_max 10 = .ok (.ireturn, 1) := dk_172 (dk_at dksJ12_max_0 10 rfl rfl)
abbrev cJ12_min : ByteArray := prog_21_method_69_code
def yJ12_min : MethodName := ⟨RJ12, "min", "(II)I"⟩
def dkwJ12_min_0 : List UInt8 := [26, 27, 163, 0, 7, 26, 167, 0, 4, 27, 172]
abbrev dktJ12_min_0 : List UInt8 := dkwJ12_min_0 ++ []
theorem dksJ12_min_0 : cJ12_min.data.toList.drop 0 = dktJ12_min_0 := by decide +kernel
theorem dJ12_min_0 : decode cJ12_min 0 = .ok (.iload_n 0, 1) := dk_26 (dk_at dksJ12_min_0 0 rfl rfl)
theorem dJ12_min_1 : decode cJ12_min 1 = .ok (.iload_n 1, 1) := dk_27 (dk_at dksJ12_min_0 1 rfl rfl)
theorem dJ12_min_2 : decode cJ12_min 2 = .ok (.if_icmp .gt 7, 3) := dk_163 0 7 (dk_at dksJ12_min_0 2 rfl rfl)
theorem dJ12_min_5 : decode cJ12_min 5 = .ok (.iload_n 0, 1) := dk_26 (dk_at dksJ12_min_0 5 rfl rfl)
theorem dJ12_min_6 : decode cJ12_min 6 = .ok (.goto 4, 3) := dk_167 0 4 (dk_at dksJ12_min_0 6 rfl rfl)
theorem dJ12_min_9 : decode cJ12_min 9 = .ok (.iload_n 1, 1) := dk_27 (dk_at dksJ12_min_0 9 rfl rfl)
theorem dJ12_min_10 : decode cJ12_min 10 = .ok (.ireturn, 1) := dk_172 (dk_at dksJ12_min_0 10 rfl rfl)
abbrev cJ12_powerOfTwoD : ByteArray := prog_21_method_101_code
def yJ12_powerOfTwoD : MethodName := ⟨RJ12, "powerOfTwoD", "(I)D"⟩
def dkwJ12_powerOfTwoD_1 : List UInt8 := [183, 0, 249, 191, 26, 133, 20, 1, 66, 97, 16, 52, 121, 20, 0, 87, 127, 184, 0, 166, 175]
abbrev dktJ12_powerOfTwoD_1 : List UInt8 := dkwJ12_powerOfTwoD_1 ++ []
def dkwJ12_powerOfTwoD_0 : List UInt8 := [178, 0, 243, 154, 0, 25, 26, 17, 252, 2, 161, 0, 10, 26, 17, 3, 255, 164, 0, 11, 187, 0, 247, 89]
abbrev dktJ12_powerOfTwoD_0 : List UInt8 := dkwJ12_powerOfTwoD_0 ++ dktJ12_powerOfTwoD_1
theorem dksJ12_powerOfTwoD_0 : cJ12_powerOfTwoD.data.toList.drop 0 = dktJ12_powerOfTwoD_0 := by decide +kernel
theorem dksJ12_powerOfTwoD_1 : cJ12_powerOfTwoD.data.toList.drop 24 = dktJ12_powerOfTwoD_1 := dk_seg dksJ12_powerOfTwoD_0 24 rfl rfl
theorem dJ12_powerOfTwoD_0 : decode cJ12_powerOfTwoD 0 = .ok (.getstatic 243, 3) := dk_178 0 243 (dk_at dksJ12_powerOfTwoD_0 0 rfl rfl)
theorem dJ12_powerOfTwoD_3 : decode cJ12_powerOfTwoD 3 = .ok (.ifCond .ne 25, 3) := dk_154 0 25 (dk_at dksJ12_powerOfTwoD_0 3 rfl rfl)
theorem dJ12_powerOfTwoD_6 : decode cJ12_powerOfTwoD 6 = .ok (.iload_n 0, 1) := dk_26 (dk_at dksJ12_powerOfTwoD_0 6 rfl rfl)
theorem dJ12_powerOfTwoD_7 : decode cJ12_powerOfTwoD 7 = .ok (.sipush (-1022), 3) := dk_17 252 2 (dk_at dksJ12_powerOfTwoD_0 7 rfl rfl)
theorem dJ12_powerOfTwoD_10 : decode cJ12_powerOfTwoD 10 = .ok (.if_icmp .lt 10, 3) := dk_161 0 10 (dk_at dksJ12_powerOfTwoD_0 10 rfl rfl)
theorem dJ12_powerOfTwoD_13 : decode cJ12_powerOfTwoD 13 = .ok (.iload_n 0, 1) := dk_26 (dk_at dksJ12_powerOfTwoD_0 13 rfl rfl)
theorem dJ12_powerOfTwoD_14 : decode cJ12_powerOfTwoD 14 = .ok (.sipush 1023, 3) := dk_17 3 255 (dk_at dksJ12_powerOfTwoD_0 14 rfl rfl)
theorem dJ12_powerOfTwoD_17 : decode cJ12_powerOfTwoD 17 = .ok (.if_icmp .le 11, 3) := dk_164 0 11 (dk_at dksJ12_powerOfTwoD_0 17 rfl rfl)
theorem dJ12_powerOfTwoD_20 : decode cJ12_powerOfTwoD 20 = .ok (.new 247, 3) := dk_187 0 247 (dk_at dksJ12_powerOfTwoD_0 20 rfl rfl)
theorem dJ12_powerOfTwoD_23 : decode cJ12_powerOfTwoD 23 = .ok (.dup, 1) := dk_89 (dk_at dksJ12_powerOfTwoD_0 23 rfl rfl)
theorem dJ12_powerOfTwoD_24 : decode cJ12_powerOfTwoD 24 = .ok (.invokespecial 249, 3) := dk_183 0 249 (dk_at dksJ12_powerOfTwoD_1 0 rfl rfl)
theorem dJ12_powerOfTwoD_27 : decode cJ12_powerOfTwoD 27 = .ok (.athrow, 1) := dk_191 (dk_at dksJ12_powerOfTwoD_1 3 rfl rfl)
theorem dJ12_powerOfTwoD_28 : decode cJ12_powerOfTwoD 28 = .ok (.iload_n 0, 1) := dk_26 (dk_at dksJ12_powerOfTwoD_1 4 rfl rfl)
theorem dJ12_powerOfTwoD_29 : decode cJ12_powerOfTwoD 29 = .ok (.i2l, 1) := dk_133 (dk_at dksJ12_powerOfTwoD_1 5 rfl rfl)
theorem dJ12_powerOfTwoD_30 : decode cJ12_powerOfTwoD 30 = .ok (.ldc2_w 322, 3) := dk_20 1 66 (dk_at dksJ12_powerOfTwoD_1 6 rfl rfl)
theorem dJ12_powerOfTwoD_33 : decode cJ12_powerOfTwoD 33 = .ok (.ladd, 1) := dk_97 (dk_at dksJ12_powerOfTwoD_1 9 rfl rfl)
theorem dJ12_powerOfTwoD_34 : decode cJ12_powerOfTwoD 34 = .ok (.bipush 52, 2) := dk_16 52 (dk_at dksJ12_powerOfTwoD_1 10 rfl rfl)
theorem dJ12_powerOfTwoD_36 : decode cJ12_powerOfTwoD 36 = .ok (.lshl, 1) := dk_121 (dk_at dksJ12_powerOfTwoD_1 12 rfl rfl)
theorem dJ12_powerOfTwoD_37 : decode cJ12_powerOfTwoD 37 = .ok (.ldc2_w 87, 3) := dk_20 0 87 (dk_at dksJ12_powerOfTwoD_1 13 rfl rfl)
theorem dJ12_powerOfTwoD_40 : decode cJ12_powerOfTwoD 40 = .ok (.land, 1) := dk_127 (dk_at dksJ12_powerOfTwoD_1 16 rfl rfl)
theorem dJ12_powerOfTwoD_41 : decode cJ12_powerOfTwoD 41 = .ok (.invokestatic 166, 3) := dk_184 0 166 (dk_at dksJ12_powerOfTwoD_1 17 rfl rfl)
theorem dJ12_powerOfTwoD_44 : decode cJ12_powerOfTwoD 44 = .ok (.dreturn, 1) := dk_175 (dk_at dksJ12_powerOfTwoD_1 20 rfl rfl)
abbrev cJ12_floor : ByteArray := prog_21_method_17_code
def yJ12_floor : MethodName := ⟨RJ12, "floor", "(D)D"⟩
theorem dJ12_floor_0 : decode cJ12_floor 0 = .ok (.dload_n 0, 1) := by decide +kernel
theorem dJ12_floor_1 : decode cJ12_floor 1 = .ok (.invokestatic 56, 3) := by decide +kernel
theorem dJ12_floor_4 : decode cJ12_floor 4 = .ok (.dreturn, 1) := by decide +kernel
abbrev cJ12_getExponent : ByteArray := prog_21_method_92_code
def yJ12_getExponent : MethodName := ⟨RJ12, "getExponent", "(D)I"⟩
def dkwJ12_getExponent_0 : List UInt8 := [38, 184, 0, 79, 20, 0, 87, 127, 16, 52, 123, 20, 1, 66, 101, 136, 172]
abbrev dktJ12_getExponent_0 : List UInt8 := dkwJ12_getExponent_0 ++ []
theorem dksJ12_getExponent_0 : cJ12_getExponent.data.toList.drop 0 = dktJ12_getExponent_0 := by decide +kernel
theorem dJ12_getExponent_0 : decode cJ12_getExponent 0 = .ok (.dload_n 0, 1) := dk_38 (dk_at dksJ12_getExponent_0 0 rfl rfl)
theorem dJ12_getExponent_1 : decode cJ12_getExponent 1 = .ok (.invokestatic 79, 3) := dk_184 0 79 (dk_at dksJ12_getExponent_0 1 rfl rfl)
theorem dJ12_getExponent_4 : decode cJ12_getExponent 4 = .ok (.ldc2_w 87, 3) := dk_20 0 87 (dk_at dksJ12_getExponent_0 4 rfl rfl)
theorem dJ12_getExponent_7 : decode cJ12_getExponent 7 = .ok (.land, 1) := dk_127 (dk_at dksJ12_getExponent_0 7 rfl rfl)
theorem dJ12_getExponent_8 : decode cJ12_getExponent 8 = .ok (.bipush 52, 2) := dk_16 52 (dk_at dksJ12_getExponent_0 8 rfl rfl)
theorem dJ12_getExponent_10 : decode cJ12_getExponent 10 = .ok (.lshr, 1) := dk_123 (dk_at dksJ12_getExponent_0 10 rfl rfl)
theorem dJ12_getExponent_11 : decode cJ12_getExponent 11 = .ok (.ldc2_w 322, 3) := dk_20 1 66 (dk_at dksJ12_getExponent_0 11 rfl rfl)
theorem dJ12_getExponent_14 : decode cJ12_getExponent 14 = .ok (.lsub, 1) := dk_101 (dk_at dksJ12_getExponent_0 14 rfl rfl)
theorem dJ12_getExponent_15 : decode cJ12_getExponent 15 = .ok (.l2i, 1) := dk_136 (dk_at dksJ12_getExponent_0 15 rfl rfl)
theorem dJ12_getExponent_16 : decode cJ12_getExponent 16 = .ok (.ireturn, 1) := dk_172 (dk_at dksJ12_getExponent_0 16 rfl rfl)
abbrev cJ12_max_2 : ByteArray := prog_21_method_68_code
def yJ12_max_2 : MethodName := ⟨RJ12, "max", "(DD)D"⟩
def dkwJ12_max_2_1 : List UInt8 := [178, 0, 174, 148, 154, 0, 5, 40, 175, 38, 40, 151, 155, 0, 7, 38, 167, 0, 4, 40, 175]
abbrev dktJ12_max_2_1 : List UInt8 := dkwJ12_max_2_1 ++ []
def dkwJ12_max_2_0 : List UInt8 := [38, 38, 151, 153, 0, 5, 38, 175, 38, 14, 151, 154, 0, 22, 40, 14, 151, 154, 0, 16, 38, 184, 0, 79]
abbrev dktJ12_max_2_0 : List UInt8 := dkwJ12_max_2_0 ++ dktJ12_max_2_1
theorem dksJ12_max_2_0 : cJ12_max_2.data.toList.drop 0 = dktJ12_max_2_0 := by decide +kernel
theorem dksJ12_max_2_1 : cJ12_max_2.data.toList.drop 24 = dktJ12_max_2_1 := dk_seg dksJ12_max_2_0 24 rfl rfl
theorem dJ12_max_2_0 : decode cJ12_max_2 0 = .ok (.dload_n 0, 1) := dk_38 (dk_at dksJ12_max_2_0 0 rfl rfl)
theorem dJ12_max_2_1 : decode cJ12_max_2 1 = .ok (.dload_n 0, 1) := dk_38 (dk_at dksJ12_max_2_0 1 rfl rfl)
theorem dJ12_max_2_2 : decode cJ12_max_2 2 = .ok (.dcmp .l, 1) := dk_151 (dk_at dksJ12_max_2_0 2 rfl rfl)
theorem dJ12_max_2_3 : decode cJ12_max_2 3 = .ok (.ifCond .eq 5, 3) := dk_153 0 5 (dk_at dksJ12_max_2_0 3 rfl rfl)
theorem dJ12_max_2_6 : decode cJ12_max_2 6 = .ok (.dload_n 0, 1) := dk_38 (dk_at dksJ12_max_2_0 6 rfl rfl)
theorem dJ12_max_2_7 : decode cJ12_max_2 7 = .ok (.dreturn, 1) := dk_175 (dk_at dksJ12_max_2_0 7 rfl rfl)
theorem dJ12_max_2_8 : decode cJ12_max_2 8 = .ok (.dload_n 0, 1) := dk_38 (dk_at dksJ12_max_2_0 8 rfl rfl)
theorem dJ12_max_2_9 : decode cJ12_max_2 9 = .ok (.dconst 0, 1) := dk_14 (dk_at dksJ12_max_2_0 9 rfl rfl)
theorem dJ12_max_2_10 : decode cJ12_max_2 10 = .ok (.dcmp .l, 1) := dk_151 (dk_at dksJ12_max_2_0 10 rfl rfl)
theorem dJ12_max_2_11 : decode cJ12_max_2 11 = .ok (.ifCond .ne 22, 3) := dk_154 0 22 (dk_at dksJ12_max_2_0 11 rfl rfl)
theorem dJ12_max_2_14 : decode cJ12_max_2 14 = .ok (.dload_n 2, 1) := dk_40 (dk_at dksJ12_max_2_0 14 rfl rfl)
theorem dJ12_max_2_15 : decode cJ12_max_2 15 = .ok (.dconst 0, 1) := dk_14 (dk_at dksJ12_max_2_0 15 rfl rfl)
theorem dJ12_max_2_16 : decode cJ12_max_2 16 = .ok (.dcmp .l, 1) := dk_151 (dk_at dksJ12_max_2_0 16 rfl rfl)
theorem dJ12_max_2_17 : decode cJ12_max_2 17 = .ok (.ifCond .ne 16, 3) := dk_154 0 16 (dk_at dksJ12_max_2_0 17 rfl rfl)
theorem dJ12_max_2_20 : decode cJ12_max_2 20 = .ok (.dload_n 0, 1) := dk_38 (dk_at dksJ12_max_2_0 20 rfl rfl)
theorem dJ12_max_2_21 : decode cJ12_max_2 21 = .ok (.invokestatic 79, 3) := dk_184 0 79 (dk_at dksJ12_max_2_0 21 rfl rfl)
theorem dJ12_max_2_24 : decode cJ12_max_2 24 = .ok (.getstatic 174, 3) := dk_178 0 174 (dk_at dksJ12_max_2_1 0 rfl rfl)
theorem dJ12_max_2_27 : decode cJ12_max_2 27 = .ok (.lcmp, 1) := dk_148 (dk_at dksJ12_max_2_1 3 rfl rfl)
theorem dJ12_max_2_28 : decode cJ12_max_2 28 = .ok (.ifCond .ne 5, 3) := dk_154 0 5 (dk_at dksJ12_max_2_1 4 rfl rfl)
theorem dJ12_max_2_31 : decode cJ12_max_2 31 = .ok (.dload_n 2, 1) := dk_40 (dk_at dksJ12_max_2_1 7 rfl rfl)
theorem dJ12_max_2_32 : decode cJ12_max_2 32 = .ok (.dreturn, 1) := dk_175 (dk_at dksJ12_max_2_1 8 rfl rfl)
theorem dJ12_max_2_33 : decode cJ12_max_2 33 = .ok (.dload_n 0, 1) := dk_38 (dk_at dksJ12_max_2_1 9 rfl rfl)
theorem dJ12_max_2_34 : decode cJ12_max_2 34 = .ok (.dload_n 2, 1) := dk_40 (dk_at dksJ12_max_2_1 10 rfl rfl)
theorem dJ12_max_2_35 : decode cJ12_max_2 35 = .ok (.dcmp .l, 1) := dk_151 (dk_at dksJ12_max_2_1 11 rfl rfl)
theorem dJ12_max_2_36 : decode cJ12_max_2 36 = .ok (.ifCond .lt 7, 3) := dk_155 0 7 (dk_at dksJ12_max_2_1 12 rfl rfl)
theorem dJ12_max_2_39 : decode cJ12_max_2 39 = .ok (.dload_n 0, 1) := dk_38 (dk_at dksJ12_max_2_1 15 rfl rfl)
theorem dJ12_max_2_40 : decode cJ12_max_2 40 = .ok (.goto 4, 3) := dk_167 0 4 (dk_at dksJ12_max_2_1 16 rfl rfl)
theorem dJ12_max_2_43 : decode cJ12_max_2 43 = .ok (.dload_n 2, 1) := dk_40 (dk_at dksJ12_max_2_1 19 rfl rfl)
theorem dJ12_max_2_44 : decode cJ12_max_2 44 = .ok (.dreturn, 1) := dk_175 (dk_at dksJ12_max_2_1 20 rfl rfl)
abbrev cJ12_min_2 : ByteArray := prog_21_method_72_code
def yJ12_min_2 : MethodName := ⟨RJ12, "min", "(DD)D"⟩
def dkwJ12_min_2_1 : List UInt8 := [178, 0, 174, 148, 154, 0, 5, 40, 175, 38, 40, 152, 157, 0, 7, 38, 167, 0, 4, 40, 175]
abbrev dktJ12_min_2_1 : List UInt8 := dkwJ12_min_2_1 ++ []
def dkwJ12_min_2_0 : List UInt8 := [38, 38, 151, 153, 0, 5, 38, 175, 38, 14, 151, 154, 0, 22, 40, 14, 151, 154, 0, 16, 40, 184, 0, 79]
abbrev dktJ12_min_2_0 : List UInt8 := dkwJ12_min_2_0 ++ dktJ12_min_2_1
theorem dksJ12_min_2_0 : cJ12_min_2.data.toList.drop 0 = dktJ12_min_2_0 := by decide +kernel
theorem dksJ12_min_2_1 : cJ12_min_2.data.toList.drop 24 = dktJ12_min_2_1 := dk_seg dksJ12_min_2_0 24 rfl rfl
theorem dJ12_min_2_0 : decode cJ12_min_2 0 = .ok (.dload_n 0, 1) := dk_38 (dk_at dksJ12_min_2_0 0 rfl rfl)
theorem dJ12_min_2_1 : decode cJ12_min_2 1 = .ok (.dload_n 0, 1) := dk_38 (dk_at dksJ12_min_2_0 1 rfl rfl)
theorem dJ12_min_2_2 : decode cJ12_min_2 2 = .ok (.dcmp .l, 1) := dk_151 (dk_at dksJ12_min_2_0 2 rfl rfl)
theorem dJ12_min_2_3 : decode cJ12_min_2 3 = .ok (.ifCond .eq 5, 3) := dk_153 0 5 (dk_at dksJ12_min_2_0 3 rfl rfl)
theorem dJ12_min_2_6 : decode cJ12_min_2 6 = .ok (.dload_n 0, 1) := dk_38 (dk_at dksJ12_min_2_0 6 rfl rfl)
theorem dJ12_min_2_7 : decode cJ12_min_2 7 = .ok (.dreturn, 1) := dk_175 (dk_at dksJ12_min_2_0 7 rfl rfl)
theorem dJ12_min_2_8 : decode cJ12_min_2 8 = .ok (.dload_n 0, 1) := dk_38 (dk_at dksJ12_min_2_0 8 rfl rfl)
theorem dJ12_min_2_9 : decode cJ12_min_2 9 = .ok (.dconst 0, 1) := dk_14 (dk_at dksJ12_min_2_0 9 rfl rfl)
theorem dJ12_min_2_10 : decode cJ12_min_2 10 = .ok (.dcmp .l, 1) := dk_151 (dk_at dksJ12_min_2_0 10 rfl rfl)
theorem dJ12_min_2_11 : decode cJ12_min_2 11 = .ok (.ifCond .ne 22, 3) := dk_154 0 22 (dk_at dksJ12_min_2_0 11 rfl rfl)
theorem dJ12_min_2_14 : decode cJ12_min_2 14 = .ok (.dload_n 2, 1) := dk_40 (dk_at dksJ12_min_2_0 14 rfl rfl)
theorem dJ12_min_2_15 : decode cJ12_min_2 15 = .ok (.dconst 0, 1) := dk_14 (dk_at dksJ12_min_2_0 15 rfl rfl)
theorem dJ12_min_2_16 : decode cJ12_min_2 16 = .ok (.dcmp .l, 1) := dk_151 (dk_at dksJ12_min_2_0 16 rfl rfl)
theorem dJ12_min_2_17 : decode cJ12_min_2 17 = .ok (.ifCond .ne 16, 3) := dk_154 0 16 (dk_at dksJ12_min_2_0 17 rfl rfl)
theorem dJ12_min_2_20 : decode cJ12_min_2 20 = .ok (.dload_n 2, 1) := dk_40 (dk_at dksJ12_min_2_0 20 rfl rfl)
theorem dJ12_min_2_21 : decode cJ12_min_2 21 = .ok (.invokestatic 79, 3) := dk_184 0 79 (dk_at dksJ12_min_2_0 21 rfl rfl)
theorem dJ12_min_2_24 : decode cJ12_min_2 24 = .ok (.getstatic 174, 3) := dk_178 0 174 (dk_at dksJ12_min_2_1 0 rfl rfl)
theorem dJ12_min_2_27 : decode cJ12_min_2 27 = .ok (.lcmp, 1) := dk_148 (dk_at dksJ12_min_2_1 3 rfl rfl)
theorem dJ12_min_2_28 : decode cJ12_min_2 28 = .ok (.ifCond .ne 5, 3) := dk_154 0 5 (dk_at dksJ12_min_2_1 4 rfl rfl)
theorem dJ12_min_2_31 : decode cJ12_min_2 31 = .ok (.dload_n 2, 1) := dk_40 (dk_at dksJ12_min_2_1 7 rfl rfl)
theorem dJ12_min_2_32 : decode cJ12_min_2 32 = .ok (.dreturn, 1) := dk_175 (dk_at dksJ12_min_2_1 8 rfl rfl)
theorem dJ12_min_2_33 : decode cJ12_min_2 33 = .ok (.dload_n 0, 1) := dk_38 (dk_at dksJ12_min_2_1 9 rfl rfl)
theorem dJ12_min_2_34 : decode cJ12_min_2 34 = .ok (.dload_n 2, 1) := dk_40 (dk_at dksJ12_min_2_1 10 rfl rfl)
theorem dJ12_min_2_35 : decode cJ12_min_2 35 = .ok (.dcmp .g, 1) := dk_152 (dk_at dksJ12_min_2_1 11 rfl rfl)
theorem dJ12_min_2_36 : decode cJ12_min_2 36 = .ok (.ifCond .gt 7, 3) := dk_157 0 7 (dk_at dksJ12_min_2_1 12 rfl rfl)
theorem dJ12_min_2_39 : decode cJ12_min_2 39 = .ok (.dload_n 0, 1) := dk_38 (dk_at dksJ12_min_2_1 15 rfl rfl)
theorem dJ12_min_2_40 : decode cJ12_min_2 40 = .ok (.goto 4, 3) := dk_167 0 4 (dk_at dksJ12_min_2_1 16 rfl rfl)
theorem dJ12_min_2_43 : decode cJ12_min_2 43 = .ok (.dload_n 2, 1) := dk_40 (dk_at dksJ12_min_2_1 19 rfl rfl)
theorem dJ12_min_2_44 : decode cJ12_min_2 44 = .ok (.dreturn, 1) := dk_175 (dk_at dksJ12_min_2_1 20 rfl rfl)
theorem q53 : (Jvm.Cond.initialized "java/lang/Math") ∈ lw_all := lw_g (lw_at lw_m1 14 rfl) rfl
theorem q213 : (Jvm.Cond.static ({ cls := "java/lang/Math", name := "abs", desc := "(D)D" } : Jvm.MethodName)) ∈ lw_all := lw_g (lw_at lw_m1 174 rfl) rfl
theorem q214 : (Jvm.Cond.code ({ cls := "java/lang/Math", name := "abs", desc := "(D)D" } : Jvm.MethodName) prog_21_method_64_code (2 : Nat) (Option.some Jvm.ClassFile.FieldType.double)) ∈ lw_all := lw_g (lw_at lw_m1 175 rfl) rfl
theorem q215 : (Jvm.Cond.methodLink "java/lang/Math" (79 : Nat) ({ cls := "java/lang/Double", name := "doubleToRawLongBits", desc := "(D)J" } : Jvm.MethodName)) ∈ lw_all := lw_g (lw_at lw_m1 176 rfl) rfl
theorem q216 : (Jvm.Cond.constantLong "java/lang/Math" (135 : Nat) (9223372036854775807 : Int64)) ∈ lw_all := lw_g (lw_at lw_m1 177 rfl) rfl
theorem q217 : (Jvm.Cond.methodLink "java/lang/Math" (166 : Nat) ({ cls := "java/lang/Double", name := "longBitsToDouble", desc := "(J)D" } : Jvm.MethodName)) ∈ lw_all := lw_g (lw_at lw_m1 178 rfl) rfl
theorem q250 : (Jvm.Cond.static ({ cls := "java/lang/Math", name := "scalb", desc := "(DI)D" } : Jvm.MethodName)) ∈ lw_all := lw_g (lw_at lw_m1 211 rfl) rfl
theorem q251 : (Jvm.Cond.code ({ cls := "java/lang/Math", name := "scalb", desc := "(DI)D" } : Jvm.MethodName) prog_21_method_99_code (9 : Nat) (Option.some Jvm.ClassFile.FieldType.double)) ∈ lw_all := lw_g (lw_at lw_m1 212 rfl) rfl
theorem q252 : (Jvm.Cond.constantDouble "java/lang/Math" (238 : Nat) (9221120237041090560 : UInt64)) ∈ lw_all := lw_g (lw_at lw_m1 213 rfl) rfl
theorem q253 : (Jvm.Cond.methodLink "java/lang/Math" (333 : Nat) ({ cls := "java/lang/Math", name := "max", desc := "(II)I" } : Jvm.MethodName)) ∈ lw_all := lw_g (lw_at lw_m1 214 rfl) rfl
theorem q254 : (Jvm.Cond.static ({ cls := "java/lang/Math", name := "max", desc := "(II)I" } : Jvm.MethodName)) ∈ lw_all := lw_g (lw_at lw_m1 215 rfl) rfl
theorem q255 : (Jvm.Cond.code ({ cls := "java/lang/Math", name := "max", desc := "(II)I" } : Jvm.MethodName) prog_21_method_65_code (2 : Nat) (Option.some Jvm.ClassFile.FieldType.int)) ∈ lw_all := lw_g (lw_at lw_m1 216 rfl) rfl
theorem q256 : (Jvm.Cond.fieldLink "java/lang/Math" (336 : Nat) "java/lang/Math" "twoToTheDoubleScaleDown" "D") ∈ lw_all := lw_g (lw_at lw_m1 217 rfl) rfl
theorem q257 : (Jvm.Cond.laysStatic "java/lang/Math" "twoToTheDoubleScaleDown" "D") ∈ lw_tbl := lw_at lw_m1 218 rfl
theorem q258 : (Jvm.Cond.methodLink "java/lang/Math" (340 : Nat) ({ cls := "java/lang/Math", name := "min", desc := "(II)I" } : Jvm.MethodName)) ∈ lw_all := lw_g (lw_at lw_m1 219 rfl) rfl
theorem q259 : (Jvm.Cond.static ({ cls := "java/lang/Math", name := "min", desc := "(II)I" } : Jvm.MethodName)) ∈ lw_all := lw_g (lw_at lw_m1 220 rfl) rfl
theorem q260 : (Jvm.Cond.code ({ cls := "java/lang/Math", name := "min", desc := "(II)I" } : Jvm.MethodName) prog_21_method_69_code (2 : Nat) (Option.some Jvm.ClassFile.FieldType.int)) ∈ lw_all := lw_g (lw_at lw_m1 221 rfl) rfl
theorem q261 : (Jvm.Cond.fieldLink "java/lang/Math" (342 : Nat) "java/lang/Math" "twoToTheDoubleScaleUp" "D") ∈ lw_all := lw_g (lw_at lw_m1 222 rfl) rfl
theorem q262 : (Jvm.Cond.laysStatic "java/lang/Math" "twoToTheDoubleScaleUp" "D") ∈ lw_tbl := lw_at lw_m1 223 rfl
theorem q263 : (Jvm.Cond.methodLink "java/lang/Math" (286 : Nat) ({ cls := "java/lang/Math", name := "powerOfTwoD", desc := "(I)D" } : Jvm.MethodName)) ∈ lw_all := lw_g (lw_at lw_m1 224 rfl) rfl
theorem q264 : (Jvm.Cond.static ({ cls := "java/lang/Math", name := "powerOfTwoD", desc := "(I)D" } : Jvm.MethodName)) ∈ lw_all := lw_g (lw_at lw_m1 225 rfl) rfl
theorem q265 : (Jvm.Cond.code ({ cls := "java/lang/Math", name := "powerOfTwoD", desc := "(I)D" } : Jvm.MethodName) prog_21_method_101_code (1 : Nat) (Option.some Jvm.ClassFile.FieldType.double)) ∈ lw_all := lw_g (lw_at lw_m1 226 rfl) rfl
theorem q266 : (Jvm.Cond.fieldLink "java/lang/Math" (243 : Nat) "java/lang/Math" "$assertionsDisabled" "Z") ∈ lw_all := lw_g (lw_at lw_m1 227 rfl) rfl
theorem q267 : (Jvm.Cond.laysStatic "java/lang/Math" "$assertionsDisabled" "Z") ∈ lw_tbl := lw_at lw_m1 228 rfl
theorem q268 : (Jvm.Cond.constantLong "java/lang/Math" (322 : Nat) (1023 : Int64)) ∈ lw_all := lw_g (lw_at lw_m1 229 rfl) rfl
theorem q269 : (Jvm.Cond.constantLong "java/lang/Math" (87 : Nat) (9218868437227405312 : Int64)) ∈ lw_all := lw_g (lw_at lw_m1 230 rfl) rfl
theorem q273 : (Jvm.Cond.static ({ cls := "java/lang/Math", name := "floor", desc := "(D)D" } : Jvm.MethodName)) ∈ lw_all := lw_g (lw_at lw_m1 234 rfl) rfl
theorem q274 : (Jvm.Cond.code ({ cls := "java/lang/Math", name := "floor", desc := "(D)D" } : Jvm.MethodName) prog_21_method_17_code (2 : Nat) (Option.some Jvm.ClassFile.FieldType.double)) ∈ lw_all := lw_g (lw_at lw_m1 235 rfl) rfl
theorem q275 : (Jvm.Cond.methodLink "java/lang/Math" (56 : Nat) ({ cls := "java/lang/StrictMath", name := "floor", desc := "(D)D" } : Jvm.MethodName)) ∈ lw_all := lw_g (lw_at lw_m1 236 rfl) rfl
theorem q283 : (Jvm.Cond.static ({ cls := "java/lang/Math", name := "getExponent", desc := "(D)I" } : Jvm.MethodName)) ∈ lw_all := lw_g (lw_at lw_m2 4 rfl) rfl
theorem q284 : (Jvm.Cond.code ({ cls := "java/lang/Math", name := "getExponent", desc := "(D)I" } : Jvm.MethodName) prog_21_method_92_code (2 : Nat) (Option.some Jvm.ClassFile.FieldType.int)) ∈ lw_all := lw_g (lw_at lw_m2 5 rfl) rfl
theorem q1720 : (Jvm.Cond.static ({ cls := "java/lang/Math", name := "max", desc := "(DD)D" } : Jvm.MethodName)) ∈ lw_all := lw_g (lw_at lw_m8 1 rfl) rfl
theorem q1721 : (Jvm.Cond.code ({ cls := "java/lang/Math", name := "max", desc := "(DD)D" } : Jvm.MethodName) prog_21_method_68_code (4 : Nat) (Option.some Jvm.ClassFile.FieldType.double)) ∈ lw_all := lw_g (lw_at lw_m8 2 rfl) rfl
theorem q1722 : (Jvm.Cond.fieldLink "java/lang/Math" (174 : Nat) "java/lang/Math" "negativeZeroDoubleBits" "J") ∈ lw_all := lw_g (lw_at lw_m8 3 rfl) rfl
theorem q1723 : (Jvm.Cond.laysStatic "java/lang/Math" "negativeZeroDoubleBits" "J") ∈ lw_tbl := lw_at lw_m8 4 rfl
theorem q1749 : (Jvm.Cond.static ({ cls := "java/lang/Math", name := "min", desc := "(DD)D" } : Jvm.MethodName)) ∈ lw_all := lw_g (lw_at lw_m8 30 rfl) rfl
theorem q1750 : (Jvm.Cond.code ({ cls := "java/lang/Math", name := "min", desc := "(DD)D" } : Jvm.MethodName) prog_21_method_72_code (4 : Nat) (Option.some Jvm.ClassFile.FieldType.double)) ∈ lw_all := lw_g (lw_at lw_m8 31 rfl) rfl
/-! java/lang/FdLibm$Cos -/
set_option maxRecDepth 100000
def RJ14 : String := "java/lang/FdLibm$Cos"
abbrev cJ14___kernel_cos : ByteArray := prog_12_method_3_code
def yJ14___kernel_cos : MethodName := ⟨RJ14, "__kernel_cos", "(DD)D"⟩
def dkwJ14___kernel_cos_6 : List UInt8 := [24, 4, 24, 6, 24, 8, 24, 10, 107, 38, 40, 107, 103, 103, 103, 175]
abbrev dktJ14___kernel_cos_6 : List UInt8 := dkwJ14___kernel_cos_6 ++ []
def dkwJ14___kernel_cos_5 : List UInt8 := [3, 184, 0, 57, 57, 12, 20, 0, 51, 24, 8, 107, 24, 12, 103, 57, 6, 15, 24, 12, 103, 57, 4]
abbrev dktJ14___kernel_cos_5 : List UInt8 := dkwJ14___kernel_cos_5 ++ dktJ14___kernel_cos_6
def dkwJ14___kernel_cos_4 : List UInt8 := [103, 103, 103, 175, 21, 14, 18, 53, 164, 0, 11, 20, 0, 54, 57, 12, 167, 0, 14, 21, 14, 18, 56, 100]
abbrev dktJ14___kernel_cos_4 : List UInt8 := dkwJ14___kernel_cos_4 ++ dktJ14___kernel_cos_5
def dkwJ14___kernel_cos_3 : List UInt8 := [57, 10, 21, 14, 18, 50, 162, 0, 22, 15, 20, 0, 51, 24, 8, 107, 24, 8, 24, 10, 107, 38, 40, 107]
abbrev dktJ14___kernel_cos_3 : List UInt8 := dkwJ14___kernel_cos_3 ++ dktJ14___kernel_cos_4
def dkwJ14___kernel_cos_2 : List UInt8 := [20, 0, 44, 24, 8, 20, 0, 46, 24, 8, 20, 0, 48, 107, 99, 107, 99, 107, 99, 107, 99, 107, 99, 107]
abbrev dktJ14___kernel_cos_2 : List UInt8 := dkwJ14___kernel_cos_2 ++ dktJ14___kernel_cos_3
def dkwJ14___kernel_cos_1 : List UInt8 := [15, 175, 38, 38, 107, 57, 8, 24, 8, 20, 0, 38, 24, 8, 20, 0, 40, 24, 8, 20, 0, 42, 24, 8]
abbrev dktJ14___kernel_cos_1 : List UInt8 := dkwJ14___kernel_cos_1 ++ dktJ14___kernel_cos_2
def dkwJ14___kernel_cos_0 : List UInt8 := [14, 57, 12, 38, 184, 0, 12, 18, 16, 126, 54, 14, 21, 14, 18, 37, 162, 0, 10, 38, 142, 154, 0, 5]
abbrev dktJ14___kernel_cos_0 : List UInt8 := dkwJ14___kernel_cos_0 ++ dktJ14___kernel_cos_1
theorem dksJ14___kernel_cos_0 : cJ14___kernel_cos.data.toList.drop 0 = dktJ14___kernel_cos_0 := by decide +kernel
theorem dksJ14___kernel_cos_1 : cJ14___kernel_cos.data.toList.drop 24 = dktJ14___kernel_cos_1 := dk_seg dksJ14___kernel_cos_0 24 rfl rfl
theorem dksJ14___kernel_cos_2 : cJ14___kernel_cos.data.toList.drop 48 = dktJ14___kernel_cos_2 := dk_seg dksJ14___kernel_cos_1 24 rfl rfl
theorem dksJ14___kernel_cos_3 : cJ14___kernel_cos.data.toList.drop 72 = dktJ14___kernel_cos_3 := dk_seg dksJ14___kernel_cos_2 24 rfl rfl
theorem dksJ14___kernel_cos_4 : cJ14___kernel_cos.data.toList.drop 96 = dktJ14___kernel_cos_4 := dk_seg dksJ14___kernel_cos_3 24 rfl rfl
theorem dksJ14___kernel_cos_5 : cJ14___kernel_cos.data.toList.drop 120 = dktJ14___kernel_cos_5 := dk_seg dksJ14___kernel_cos_4 24 rfl rfl
theorem dksJ14___kernel_cos_6 : cJ14___kernel_cos.data.toList.drop 143 = dktJ14___kernel_cos_6 := dk_seg dksJ14___kernel_cos_5 23 rfl rfl
theorem dJ14___kernel_cos_0 : decode cJ14___kernel_cos 0 = .ok (.dconst 0, 1) := dk_14 (dk_at dksJ14___kernel_cos_0 0 rfl rfl)
theorem dJ14___kernel_cos_1 : decode cJ14___kernel_cos 1 = .ok (.dstore 12, 2) := dk_57 12 (dk_at dksJ14___kernel_cos_0 1 rfl rfl)
theorem dJ14___kernel_cos_3 : decode cJ14___kernel_cos 3 = .ok (.dload_n 0, 1) := dk_38 (dk_at dksJ14___kernel_cos_0 3 rfl rfl)
theorem dJ14___kernel_cos_4 : decode cJ14___kernel_cos 4 = .ok (.invokestatic 12, 3) := dk_184 0 12 (dk_at dksJ14___kernel_cos_0 4 rfl rfl)
theorem dJ14___kernel_cos_7 : decode cJ14___kernel_cos 7 = .ok (.ldc 16, 2) := dk_18 16 (dk_at dksJ14___kernel_cos_0 7 rfl rfl)
theorem dJ14___kernel_cos_9 : decode cJ14___kernel_cos 9 = .ok (.iand, 1) := dk_126 (dk_at dksJ14___kernel_cos_0 9 rfl rfl)
theorem dJ14___kernel_cos_10 : decode cJ14___kernel_cos 10 = .ok (.istore 14, 2) := dk_54 14 (dk_at dksJ14___kernel_cos_0 10 rfl rfl)
theorem dJ14___kernel_cos_12 : decode cJ14___kernel_cos 12 = .ok (.iload 14, 2) := dk_21 14 (dk_at dksJ14___kernel_cos_0 12 rfl rfl)
theorem dJ14___kernel_cos_14 : decode cJ14___kernel_cos 14 = .ok (.ldc 37, 2) := dk_18 37 (dk_at dksJ14___kernel_cos_0 14 rfl rfl)
theorem dJ14___kernel_cos_16 : decode cJ14___kernel_cos 16 = .ok (.if_icmp .ge 10, 3) := dk_162 0 10 (dk_at dksJ14___kernel_cos_0 16 rfl rfl)
theorem dJ14___kernel_cos_19 : decode cJ14___kernel_cos 19 = .ok (.dload_n 0, 1) := dk_38 (dk_at dksJ14___kernel_cos_0 19 rfl rfl)
theorem dJ14___kernel_cos_20 : decode cJ14___kernel_cos 20 = .ok (.d2i, 1) := dk_142 (dk_at dksJ14___kernel_cos_0 20 rfl rfl)
theorem dJ14___kernel_cos_21 : decode cJ14___kernel_cos 21 = .ok (.ifCond .ne 5, 3) := dk_154 0 5 (dk_at dksJ14___kernel_cos_0 21 rfl rfl)
theorem dJ14___kernel_cos_24 : decode cJ14___kernel_cos 24 = .ok (.dconst 1, 1) := dk_15 (dk_at dksJ14___kernel_cos_1 0 rfl rfl)
theorem dJ14___kernel_cos_25 : decode cJ14___kernel_cos 25 = .ok (.dreturn, 1) := dk_175 (dk_at dksJ14___kernel_cos_1 1 rfl rfl)
theorem dJ14___kernel_cos_26 : decode cJ14___kernel_cos 26 = .ok (.dload_n 0, 1) := dk_38 (dk_at dksJ14___kernel_cos_1 2 rfl rfl)
theorem dJ14___kernel_cos_27 : decode cJ14___kernel_cos 27 = .ok (.dload_n 0, 1) := dk_38 (dk_at dksJ14___kernel_cos_1 3 rfl rfl)
theorem dJ14___kernel_cos_28 : decode cJ14___kernel_cos 28 = .ok (.dmul, 1) := dk_107 (dk_at dksJ14___kernel_cos_1 4 rfl rfl)
theorem dJ14___kernel_cos_29 : decode cJ14___kernel_cos 29 = .ok (.dstore 8, 2) := dk_57 8 (dk_at dksJ14___kernel_cos_1 5 rfl rfl)
theorem dJ14___kernel_cos_31 : decode cJ14___kernel_cos 31 = .ok (.dload 8, 2) := dk_24 8 (dk_at dksJ14___kernel_cos_1 7 rfl rfl)
theorem dJ14___kernel_cos_33 : decode cJ14___kernel_cos 33 = .ok (.ldc2_w 38, 3) := dk_20 0 38 (dk_at dksJ14___kernel_cos_1 9 rfl rfl)
theorem dJ14___kernel_cos_36 : decode cJ14___kernel_cos 36 = .ok (.dload 8, 2) := dk_24 8 (dk_at dksJ14___kernel_cos_1 12 rfl rfl)
theorem dJ14___kernel_cos_38 : decode cJ14___kernel_cos 38 = .ok (.ldc2_w 40, 3) := dk_20 0 40 (dk_at dksJ14___kernel_cos_1 14 rfl rfl)
theorem dJ14___kernel_cos_41 : decode cJ14___kernel_cos 41 = .ok (.dload 8, 2) := dk_24 8 (dk_at dksJ14___kernel_cos_1 17 rfl rfl)
theorem dJ14___kernel_cos_43 : decode cJ14___kernel_cos 43 = .ok (.ldc2_w 42, 3) := dk_20 0 42 (dk_at dksJ14___kernel_cos_1 19 rfl rfl)
theorem dJ14___kernel_cos_46 : decode cJ14___kernel_cos 46 = .ok (.dload 8, 2) := dk_24 8 (dk_at dksJ14___kernel_cos_1 22 rfl rfl)
theorem dJ14___kernel_cos_48 : decode cJ14___kernel_cos 48 = .ok (.ldc2_w 44, 3) := dk_20 0 44 (dk_at dksJ14___kernel_cos_2 0 rfl rfl)
theorem dJ14___kernel_cos_51 : decode cJ14___kernel_cos 51 = .ok (.dload 8, 2) := dk_24 8 (dk_at dksJ14___kernel_cos_2 3 rfl rfl)
theorem dJ14___kernel_cos_53 : decode cJ14___kernel_cos 53 = .ok (.ldc2_w 46, 3) := dk_20 0 46 (dk_at dksJ14___kernel_cos_2 5 rfl rfl)
theorem dJ14___kernel_cos_56 : decode cJ14___kernel_cos 56 = .ok (.dload 8, 2) := dk_24 8 (dk_at dksJ14___kernel_cos_2 8 rfl rfl)
theorem dJ14___kernel_cos_58 : decode cJ14___kernel_cos 58 = .ok (.ldc2_w 48, 3) := dk_20 0 48 (dk_at dksJ14___kernel_cos_2 10 rfl rfl)
theorem dJ14___kernel_cos_61 : decode cJ14___kernel_cos 61 = .ok (.dmul, 1) := dk_107 (dk_at dksJ14___kernel_cos_2 13 rfl rfl)
theorem dJ14___kernel_cos_62 : decode cJ14___kernel_cos 62 = .ok (.dadd, 1) := dk_99 (dk_at dksJ14___kernel_cos_2 14 rfl rfl)
theorem dJ14___kernel_cos_63 : decode cJ14___kernel_cos 63 = .ok (.dmul, 1) := dk_107 (dk_at dksJ14___kernel_cos_2 15 rfl rfl)
theorem dJ14___kernel_cos_64 : decode cJ14___kernel_cos 64 = .ok (.dadd, 1) := dk_99 (dk_at dksJ14___kernel_cos_2 16 rfl rfl)
theorem dJ14___kernel_cos_65 : decode cJ14___kernel_cos 65 = .ok (.dmul, 1) := dk_107 (dk_at dksJ14___kernel_cos_2 17 rfl rfl)
theorem dJ14___kernel_cos_66 : decode cJ14___kernel_cos 66 = .ok (.dadd, 1) := dk_99 (dk_at dksJ14___kernel_cos_2 18 rfl rfl)
theorem dJ14___kernel_cos_67 : decode cJ14___kernel_cos 67 = .ok (.dmul, 1) := dk_107 (dk_at dksJ14___kernel_cos_2 19 rfl rfl)
theorem dJ14___kernel_cos_68 : decode cJ14___kernel_cos 68 = .ok (.dadd, 1) := dk_99 (dk_at dksJ14___kernel_cos_2 20 rfl rfl)
theorem dJ14___kernel_cos_69 : decode cJ14___kernel_cos 69 = .ok (.dmul, 1) := dk_107 (dk_at dksJ14___kernel_cos_2 21 rfl rfl)
theorem dJ14___kernel_cos_70 : decode cJ14___kernel_cos 70 = .ok (.dadd, 1) := dk_99 (dk_at dksJ14___kernel_cos_2 22 rfl rfl)
theorem dJ14___kernel_cos_71 : decode cJ14___kernel_cos 71 = .ok (.dmul, 1) := dk_107 (dk_at dksJ14___kernel_cos_2 23 rfl rfl)
theorem dJ14___kernel_cos_72 : decode cJ14___kernel_cos 72 = .ok (.dstore 10, 2) := dk_57 10 (dk_at dksJ14___kernel_cos_3 0 rfl rfl)
theorem dJ14___kernel_cos_74 : decode cJ14___kernel_cos 74 = .ok (.iload 14, 2) := dk_21 14 (dk_at dksJ14___kernel_cos_3 2 rfl rfl)
theorem dJ14___kernel_cos_76 : decode cJ14___kernel_cos 76 = .ok (.ldc 50, 2) := dk_18 50 (dk_at dksJ14___kernel_cos_3 4 rfl rfl)
theorem dJ14___kernel_cos_78 : decode cJ14___kernel_cos 78 = .ok (.if_icmp .ge 22, 3) := dk_162 0 22 (dk_at dksJ14___kernel_cos_3 6 rfl rfl)
theorem dJ14___kernel_cos_81 : decode cJ14___kernel_cos 81 = .ok (.dconst 1, 1) := dk_15 (dk_at dksJ14___kernel_cos_3 9 rfl rfl)
theorem dJ14___kernel_cos_82 : decode cJ14___kernel_cos 82 = .ok (.ldc2_w 51, 3) := dk_20 0 51 (dk_at dksJ14___kernel_cos_3 10 rfl rfl)
theorem dJ14___kernel_cos_85 : decode cJ14___kernel_cos 85 = .ok (.dload 8, 2) := dk_24 8 (dk_at dksJ14___kernel_cos_3 13 rfl rfl)
theorem dJ14___kernel_cos_87 : decode cJ14___kernel_cos 87 = .ok (.dmul, 1) := dk_107 (dk_at dksJ14___kernel_cos_3 15 rfl rfl)
theorem dJ14___kernel_cos_88 : decode cJ14___kernel_cos 88 = .ok (.dload 8, 2) := dk_24 8 (dk_at dksJ14___kernel_cos_3 16 rfl rfl)
theorem dJ14___kernel_cos_90 : decode cJ14___kernel_cos 90 = .ok (.dload 10, 2) := dk_24 10 (dk_at dksJ14___kernel_cos_3 18 rfl rfl)
theorem dJ14___kernel_cos_92 : decode cJ14___kernel_cos 92 = .ok (.dmul, 1) := dk_107 (dk_at dksJ14___kernel_cos_3 20 rfl rfl)
theorem dJ14___kernel_cos_93 : decode cJ14___kernel_cos 93 = .ok (.dload_n 0, 1) := dk_38 (dk_at dksJ14___kernel_cos_3 21 rfl rfl)
theorem dJ14___kernel_cos_94 : decode cJ14___kernel_cos 94 = .ok (.dload_n 2, 1) := dk_40 (dk_at dksJ14___kernel_cos_3 22 rfl rfl)
theorem dJ14___kernel_cos_95 : decode cJ14___kernel_cos 95 = .ok (.dmul, 1) := dk_107 (dk_at dksJ14___kernel_cos_3 23 rfl rfl)
theorem dJ14___kernel_cos_96 : decode cJ14___kernel_cos 96 = .ok (.dsub, 1) := dk_103 (dk_at dksJ14___kernel_cos_4 0 rfl rfl)
theorem dJ14___kernel_cos_97 : decode cJ14___kernel_cos 97 = .ok (.dsub, 1) := dk_103 (dk_at dksJ14___kernel_cos_4 1 rfl rfl)
theorem dJ14___kernel_cos_98 : decode cJ14___kernel_cos 98 = .ok (.dsub, 1) := dk_103 (dk_at dksJ14___kernel_cos_4 2 rfl rfl)
theorem dJ14___kernel_cos_99 : decode cJ14___kernel_cos 99 = .ok (.dreturn, 1) := dk_175 (dk_at dksJ14___kernel_cos_4 3 rfl rfl)
theorem dJ14___kernel_cos_100 : decode cJ14___kernel_cos 100 = .ok (.iload 14, 2) := dk_21 14 (dk_at dksJ14___kernel_cos_4 4 rfl rfl)
theorem dJ14___kernel_cos_102 : decode cJ14___kernel_cos 102 = .ok (.ldc 53, 2) := dk_18 53 (dk_at dksJ14___kernel_cos_4 6 rfl rfl)
theorem dJ14___kernel_cos_104 : decode cJ14___kernel_cos 104 = .ok (.if_icmp .le 11, 3) := dk_164 0 11 (dk_at dksJ14___kernel_cos_4 8 rfl rfl)
theorem dJ14___kernel_cos_107 : decode cJ14___kernel_cos 107 = .ok (.ldc2_w 54, 3) := dk_20 0 54 (dk_at dksJ14___kernel_cos_4 11 rfl rfl)
theorem dJ14___kernel_cos_110 : decode cJ14___kernel_cos 110 = .ok (.dstore 12, 2) := dk_57 12 (dk_at dksJ14___kernel_cos_4 14 rfl rfl)
theorem dJ14___kernel_cos_112 : decode cJ14___kernel_cos 112 = .ok (.goto 14, 3) := dk_167 0 14 (dk_at dksJ14___kernel_cos_4 16 rfl rfl)
theorem dJ14___kernel_cos_115 : decode cJ14___kernel_cos 115 = .ok (.iload 14, 2) := dk_21 14 (dk_at dksJ14___kernel_cos_4 19 rfl rfl)
theorem dJ14___kernel_cos_117 : decode cJ14___kernel_cos 117 = .ok (.ldc 56, 2) := dk_18 56 (dk_at dksJ14___kernel_cos_4 21 rfl rfl)
theorem dJ14___kernel_cos_119 : decode cJ14___kernel_cos 119 = .ok (.isub, 1) := dk_100 (dk_at dksJ14___kernel_cos_4 23 rfl rfl)
theorem dJ14___kernel_cos_120 : decode cJ14___kernel_cos 120 = .ok (.iconst 0, 1) := dk_3 (dk_at dksJ14___kernel_cos_5 0 rfl rfl)
theorem dJ14___kernel_cos_121 : decode cJ14___kernel_cos 121 = .ok (.invokestatic 57, 3) := dk_184 0 57 (dk_at dksJ14___kernel_cos_5 1 rfl rfl)
theorem dJ14___kernel_cos_124 : decode cJ14___kernel_cos 124 = .ok (.dstore 12, 2) := dk_57 12 (dk_at dksJ14___kernel_cos_5 4 rfl rfl)
theorem dJ14___kernel_cos_126 : decode cJ14___kernel_cos 126 = .ok (.ldc2_w 51, 3) := dk_20 0 51 (dk_at dksJ14___kernel_cos_5 6 rfl rfl)
theorem dJ14___kernel_cos_129 : decode cJ14___kernel_cos 129 = .ok (.dload 8, 2) := dk_24 8 (dk_at dksJ14___kernel_cos_5 9 rfl rfl)
theorem dJ14___kernel_cos_131 : decode cJ14___kernel_cos 131 = .ok (.dmul, 1) := dk_107 (dk_at dksJ14___kernel_cos_5 11 rfl rfl)
theorem dJ14___kernel_cos_132 : decode cJ14___kernel_cos 132 = .ok (.dload 12, 2) := dk_24 12 (dk_at dksJ14___kernel_cos_5 12 rfl rfl)
theorem dJ14___kernel_cos_134 : decode cJ14___kernel_cos 134 = .ok (.dsub, 1) := dk_103 (dk_at dksJ14___kernel_cos_5 14 rfl rfl)
theorem dJ14___kernel_cos_135 : decode cJ14___kernel_cos 135 = .ok (.dstore 6, 2) := dk_57 6 (dk_at dksJ14___kernel_cos_5 15 rfl rfl)
theorem dJ14___kernel_cos_137 : decode cJ14___kernel_cos 137 = .ok (.dconst 1, 1) := dk_15 (dk_at dksJ14___kernel_cos_5 17 rfl rfl)
theorem dJ14___kernel_cos_138 : decode cJ14___kernel_cos 138 = .ok (.dload 12, 2) := dk_24 12 (dk_at dksJ14___kernel_cos_5 18 rfl rfl)
theorem dJ14___kernel_cos_140 : decode cJ14___kernel_cos 140 = .ok (.dsub, 1) := dk_103 (dk_at dksJ14___kernel_cos_5 20 rfl rfl)
theorem dJ14___kernel_cos_141 : decode cJ14___kernel_cos 141 = .ok (.dstore 4, 2) := dk_57 4 (dk_at dksJ14___kernel_cos_5 21 rfl rfl)
theorem dJ14___kernel_cos_143 : decode cJ14___kernel_cos 143 = .ok (.dload 4, 2) := dk_24 4 (dk_at dksJ14___kernel_cos_6 0 rfl rfl)
theorem dJ14___kernel_cos_145 : decode cJ14___kernel_cos 145 = .ok (.dload 6, 2) := dk_24 6 (dk_at dksJ14___kernel_cos_6 2 rfl rfl)
theorem dJ14___kernel_cos_147 : decode cJ14___kernel_cos 147 = .ok (.dload 8, 2) := dk_24 8 (dk_at dksJ14___kernel_cos_6 4 rfl rfl)
theorem dJ14___kernel_cos_149 : decode cJ14___kernel_cos 149 = .ok (.dload 10, 2) := dk_24 10 (dk_at dksJ14___kernel_cos_6 6 rfl rfl)
theorem dJ14___kernel_cos_151 : decode cJ14___kernel_cos 151 = .ok (.dmul, 1) := dk_107 (dk_at dksJ14___kernel_cos_6 8 rfl rfl)
theorem dJ14___kernel_cos_152 : decode cJ14___kernel_cos 152 = .ok (.dload_n 0, 1) := dk_38 (dk_at dksJ14___kernel_cos_6 9 rfl rfl)
theorem dJ14___kernel_cos_153 : decode cJ14___kernel_cos 153 = .ok (.dload_n 2, 1) := dk_40 (dk_at dksJ14___kernel_cos_6 10 rfl rfl)
theorem dJ14___kernel_cos_154 : decode cJ14___kernel_cos 154 = .ok (.dmul, 1) := dk_107 (dk_at dksJ14___kernel_cos_6 11 rfl rfl)
theorem dJ14___kernel_cos_155 : decode cJ14___kernel_cos 155 = .ok (.dsub, 1) := dk_103 (dk_at dksJ14___kernel_cos_6 12 rfl rfl)
theorem dJ14___kernel_cos_156 : decode cJ14___kernel_cos 156 = .ok (.dsub, 1) := dk_103 (dk_at dksJ14___kernel_cos_6 13 rfl rfl)
theorem dJ14___kernel_cos_157 : decode cJ14___kernel_cos 157 = .ok (.dsub, 1) := dk_103 (dk_at dksJ14___kernel_cos_6 14 rfl rfl)
theorem dJ14___kernel_cos_158 : decode cJ14___kernel_cos 158 = .ok (.dreturn, 1) := dk_175 (dk_at dksJ14___kernel_cos_6 15 rfl rfl)
abbrev cJ14_compute : ByteArray := prog_12_method_2_code
def yJ14_compute : MethodName := ⟨RJ14, "compute", "(D)D"⟩
def dkwJ14_compute_5 : List UInt8 := [49, 44, 4, 49, 184, 0, 18, 119, 175, 44, 3, 49, 44, 4, 49, 4, 184, 0, 31, 175]
abbrev dktJ14_compute_5 : List UInt8 := dkwJ14_compute_5 ++ []
def dkwJ14_compute_4 : List UInt8 := [44, 3, 49, 44, 4, 49, 184, 0, 18, 175, 44, 3, 49, 44, 4, 49, 4, 184, 0, 31, 119, 175, 44, 3]
abbrev dktJ14_compute_4 : List UInt8 := dkwJ14_compute_4 ++ dktJ14_compute_5
def dkwJ14_compute_3 : List UInt8 := [170, 0, 0, 0, 0, 59, 0, 0, 0, 0, 0, 0, 0, 2, 0, 0, 0, 26, 0, 0, 0, 36, 0, 0, 0, 48]
abbrev dktJ14_compute_3 : List UInt8 := dkwJ14_compute_3 ++ dktJ14_compute_4
def dkwJ14_compute_2 : List UInt8 := [184, 0, 25, 54, 5, 21, 5, 6, 126]
abbrev dktJ14_compute_2 : List UInt8 := dkwJ14_compute_2 ++ dktJ14_compute_3
def dkwJ14_compute_1 : List UInt8 := [163, 0, 9, 38, 41, 184, 0, 18, 175, 21, 6, 18, 24, 161, 0, 7, 38, 38, 103, 175, 38, 44]
abbrev dktJ14_compute_1 : List UInt8 := dkwJ14_compute_1 ++ dktJ14_compute_2
def dkwJ14_compute_0 : List UInt8 := [5, 188, 7, 77, 14, 74, 38, 184, 0, 12, 54, 6, 21, 6, 18, 16, 126, 54, 6, 21, 6, 18, 17]
abbrev dktJ14_compute_0 : List UInt8 := dkwJ14_compute_0 ++ dktJ14_compute_1
theorem dksJ14_compute_0 : cJ14_compute.data.toList.drop 0 = dktJ14_compute_0 := by decide +kernel
theorem dksJ14_compute_1 : cJ14_compute.data.toList.drop 23 = dktJ14_compute_1 := dk_seg dksJ14_compute_0 23 rfl rfl
theorem dksJ14_compute_2 : cJ14_compute.data.toList.drop 45 = dktJ14_compute_2 := dk_seg dksJ14_compute_1 22 rfl rfl
theorem dksJ14_compute_3 : cJ14_compute.data.toList.drop 54 = dktJ14_compute_3 := dk_seg dksJ14_compute_2 9 rfl rfl
theorem dksJ14_compute_4 : cJ14_compute.data.toList.drop 80 = dktJ14_compute_4 := dk_seg dksJ14_compute_3 26 rfl rfl
theorem dksJ14_compute_5 : cJ14_compute.data.toList.drop 104 = dktJ14_compute_5 := dk_seg dksJ14_compute_4 24 rfl rfl
theorem dJ14_compute_0 : decode cJ14_compute 0 = .ok (.iconst 2, 1) := dk_5 (dk_at dksJ14_compute_0 0 rfl rfl)
theorem dJ14_compute_1 : decode cJ14_compute 1 = .ok (.newarray .double, 2) := dk_188_7 (dk_at dksJ14_compute_0 1 rfl rfl)
theorem dJ14_compute_3 : decode cJ14_compute 3 = .ok (.astore_n 2, 1) := dk_77 (dk_at dksJ14_compute_0 3 rfl rfl)
theorem dJ14_compute_4 : decode cJ14_compute 4 = .ok (.dconst 0, 1) := dk_14 (dk_at dksJ14_compute_0 4 rfl rfl)
theorem dJ14_compute_5 : decode cJ14_compute 5 = .ok (.dstore_n 3, 1) := dk_74 (dk_at dksJ14_compute_0 5 rfl rfl)
theorem dJ14_compute_6 : decode cJ14_compute 6 = .ok (.dload_n 0, 1) := dk_38 (dk_at dksJ14_compute_0 6 rfl rfl)
theorem dJ14_compute_7 : decode cJ14_compute 7 = .ok (.invokestatic 12, 3) := dk_184 0 12 (dk_at dksJ14_compute_0 7 rfl rfl)
theorem dJ14_compute_10 : decode cJ14_compute 10 = .ok (.istore 6, 2) := dk_54 6 (dk_at dksJ14_compute_0 10 rfl rfl)
theorem dJ14_compute_12 : decode cJ14_compute 12 = .ok (.iload 6, 2) := dk_21 6 (dk_at dksJ14_compute_0 12 rfl rfl)
theorem dJ14_compute_14 : decode cJ14_compute 14 = .ok (.ldc 16, 2) := dk_18 16 (dk_at dksJ14_compute_0 14 rfl rfl)
theorem dJ14_compute_16 : decode cJ14_compute 16 = .ok (.iand, 1) := dk_126 (dk_at dksJ14_compute_0 16 rfl rfl)
theorem dJ14_compute_17 : decode cJ14_compute 17 = .ok (.istore 6, 2) := dk_54 6 (dk_at dksJ14_compute_0 17 rfl rfl)
theorem dJ14_compute_19 : decode cJ14_compute 19 = .ok (.iload 6, 2) := dk_21 6 (dk_at dksJ14_compute_0 19 rfl rfl)
theorem dJ14_compute_21 : decode cJ14_compute 21 = .ok (.ldc 17, 2) := dk_18 17 (dk_at dksJ14_compute_0 21 rfl rfl)
theorem dJ14_compute_23 : decode cJ14_compute 23 = .ok (.if_icmp .gt 9, 3) := dk_163 0 9 (dk_at dksJ14_compute_1 0 rfl rfl)
theorem dJ14_compute_26 : decode cJ14_compute 26 = .ok (.dload_n 0, 1) := dk_38 (dk_at dksJ14_compute_1 3 rfl rfl)
theorem dJ14_compute_27 : decode cJ14_compute 27 = .ok (.dload_n 3, 1) := dk_41 (dk_at dksJ14_compute_1 4 rfl rfl)
theorem dJ14_compute_28 : decode cJ14_compute 28 = .ok (.invokestatic 18, 3) := dk_184 0 18 (dk_at dksJ14_compute_1 5 rfl rfl)
theorem dJ14_compute_31 : decode cJ14_compute 31 = .ok (.dreturn, 1) := dk_175 (dk_at dksJ14_compute_1 8 rfl rfl)
theorem dJ14_compute_32 : decode cJ14_compute 32 = .ok (.iload 6, 2) := dk_21 6 (dk_at dksJ14_compute_1 9 rfl rfl)
theorem dJ14_compute_34 : decode cJ14_compute 34 = .ok (.ldc 24, 2) := dk_18 24 (dk_at dksJ14_compute_1 11 rfl rfl)
theorem dJ14_compute_36 : decode cJ14_compute 36 = .ok (.if_icmp .lt 7, 3) := dk_161 0 7 (dk_at dksJ14_compute_1 13 rfl rfl)
theorem dJ14_compute_39 : decode cJ14_compute 39 = .ok (.dload_n 0, 1) := dk_38 (dk_at dksJ14_compute_1 16 rfl rfl)
theorem dJ14_compute_40 : decode cJ14_compute 40 = .ok (.dload_n 0, 1) := dk_38 (dk_at dksJ14_compute_1 17 rfl rfl)
theorem dJ14_compute_41 : decode cJ14_compute 41 = .ok (.dsub, 1) := dk_103 (dk_at dksJ14_compute_1 18 rfl rfl)
theorem dJ14_compute_42 : decode cJ14_compute 42 = .ok (.dreturn, 1) := dk_175 (dk_at dksJ14_compute_1 19 rfl rfl)
theorem dJ14_compute_43 : decode cJ14_compute 43 = .ok (.dload_n 0, 1) := dk_38 (dk_at dksJ14_compute_1 20 rfl rfl)
theorem dJ14_compute_44 : decode cJ14_compute 44 = .ok (.aload_n 2, 1) := dk_44 (dk_at dksJ14_compute_1 21 rfl rfl)
theorem dJ14_compute_45 : decode cJ14_compute 45 = .ok (.invokestatic 25, 3) := dk_184 0 25 (dk_at dksJ14_compute_2 0 rfl rfl)
theorem dJ14_compute_48 : decode cJ14_compute 48 = .ok (.istore 5, 2) := dk_54 5 (dk_at dksJ14_compute_2 3 rfl rfl)
theorem dJ14_compute_50 : decode cJ14_compute 50 = .ok (.iload 5, 2) := dk_21 5 (dk_at dksJ14_compute_2 5 rfl rfl)
theorem dJ14_compute_52 : decode cJ14_compute 52 = .ok (.iconst 3, 1) := dk_6 (dk_at dksJ14_compute_2 7 rfl rfl)
theorem dJ14_compute_53 : decode cJ14_compute 53 = .ok (.iand, 1) := dk_126 (dk_at dksJ14_compute_2 8 rfl rfl)
theorem dJ14_compute_54 : decode cJ14_compute 54 = .ok (.tableswitch 59 0 2 #[26, 36, 48], 26) := by decide +kernel
theorem dJ14_compute_80 : decode cJ14_compute 80 = .ok (.aload_n 2, 1) := dk_44 (dk_at dksJ14_compute_4 0 rfl rfl)
theorem dJ14_compute_81 : decode cJ14_compute 81 = .ok (.iconst 0, 1) := dk_3 (dk_at dksJ14_compute_4 1 rfl rfl)
theorem dJ14_compute_82 : decode cJ14_compute 82 = .ok (.daload, 1) := dk_49 (dk_at dksJ14_compute_4 2 rfl rfl)
theorem dJ14_compute_83 : decode cJ14_compute 83 = .ok (.aload_n 2, 1) := dk_44 (dk_at dksJ14_compute_4 3 rfl rfl)
theorem dJ14_compute_84 : decode cJ14_compute 84 = .ok (.iconst 1, 1) := dk_4 (dk_at dksJ14_compute_4 4 rfl rfl)
theorem dJ14_compute_85 : decode cJ14_compute 85 = .ok (.daload, 1) := dk_49 (dk_at dksJ14_compute_4 5 rfl rfl)
theorem dJ14_compute_86 : decode cJ14_compute 86 = .ok (.invokestatic 18, 3) := dk_184 0 18 (dk_at dksJ14_compute_4 6 rfl rfl)
theorem dJ14_compute_89 : decode cJ14_compute 89 = .ok (.dreturn, 1) := dk_175 (dk_at dksJ14_compute_4 9 rfl rfl)
theorem dJ14_compute_90 : decode cJ14_compute 90 = .ok (.aload_n 2, 1) := dk_44 (dk_at dksJ14_compute_4 10 rfl rfl)
theorem dJ14_compute_91 : decode cJ14_compute 91 = .ok (.iconst 0, 1) := dk_3 (dk_at dksJ14_compute_4 11 rfl rfl)
theorem dJ14_compute_92 : decode cJ14_compute 92 = .ok (.daload, 1) := dk_49 (dk_at dksJ14_compute_4 12 rfl rfl)
theorem dJ14_compute_93 : decode cJ14_compute 93 = .ok (.aload_n 2, 1) := dk_44 (dk_at dksJ14_compute_4 13 rfl rfl)
theorem dJ14_compute_94 : decode cJ14_compute 94 = .ok (.iconst 1, 1) := dk_4 (dk_at dksJ14_compute_4 14 rfl rfl)
theorem dJ14_compute_95 : decode cJ14_compute 95 = .ok (.daload, 1) := dk_49 (dk_at dksJ14_compute_4 15 rfl rfl)
theorem dJ14_compute_96 : decode cJ14_compute 96 = .ok (.iconst 1, 1) := dk_4 (dk_at dksJ14_compute_4 16 rfl rfl)
theorem dJ14_compute_97 : decode cJ14_compute 97 = .ok (.invokestatic 31, 3) := dk_184 0 31 (dk_at dksJ14_compute_4 17 rfl rfl)
theorem dJ14_compute_100 : decode cJ14_compute 100 = .ok (.dneg, 1) := dk_119 (dk_at dksJ14_compute_4 20 rfl rfl)
theorem dJ14_compute_101 : decode cJ14_compute 101 = .ok (.dreturn, 1) := dk_175 (dk_at dksJ14_compute_4 21 rfl rfl)
theorem dJ14_compute_102 : decode cJ14_compute 102 = .ok (.aload_n 2, 1) := dk_44 (dk_at dksJ14_compute_4 22 rfl rfl)
theorem dJ14_compute_103 : decode cJ14_compute 103 = .ok (.iconst 0, 1) := dk_3 (dk_at dksJ14_compute_4 23 rfl rfl)
theorem dJ14_compute_104 : decode cJ14_compute 104 = .ok (.daload, 1) := dk_49 (dk_at dksJ14_compute_5 0 rfl rfl)
theorem dJ14_compute_105 : decode cJ14_compute 105 = .ok (.aload_n 2, 1) := dk_44 (dk_at dksJ14_compute_5 1 rfl rfl)
theorem dJ14_compute_106 : decode cJ14_compute 106 = .ok (.iconst 1, 1) := dk_4 (dk_at dksJ14_compute_5 2 rfl rfl)
theorem dJ14_compute_107 : decode cJ14_compute 107 = .ok (.daload, 1) := dk_49 (dk_at dksJ14_compute_5 3 rfl rfl)
theorem dJ14_compute_108 : decode cJ14_compute 108 = .ok (.invokestatic 18, 3) := dk_184 0 18 (dk_at dksJ14_compute_5 4 rfl rfl)
theorem dJ14_compute_111 : decode cJ14_compute 111 = .ok (.dneg, 1) := dk_119 (dk_at dksJ14_compute_5 7 rfl rfl)
theorem dJ14_compute_112 : decode cJ14_compute 112 = .ok (.dreturn, 1) := dk_175 (dk_at dksJ14_compute_5 8 rfl rfl)
theorem dJ14_compute_113 : decode cJ14_compute 113 = .ok (.aload_n 2, 1) := dk_44 (dk_at dksJ14_compute_5 9 rfl rfl)
theorem dJ14_compute_114 : decode cJ14_compute 114 = .ok (.iconst 0, 1) := dk_3 (dk_at dksJ14_compute_5 10 rfl rfl)
theorem dJ14_compute_115 : decode cJ14_compute 115 = .ok (.daload, 1) := dk_49 (dk_at dksJ14_compute_5 11 rfl rfl)
theorem dJ14_compute_116 : decode cJ14_compute 116 = .ok (.aload_n 2, 1) := dk_44 (dk_at dksJ14_compute_5 12 rfl rfl)
theorem dJ14_compute_117 : decode cJ14_compute 117 = .ok (.iconst 1, 1) := dk_4 (dk_at dksJ14_compute_5 13 rfl rfl)
theorem dJ14_compute_118 : decode cJ14_compute 118 = .ok (.daload, 1) := dk_49 (dk_at dksJ14_compute_5 14 rfl rfl)
theorem dJ14_compute_119 : decode cJ14_compute 119 = .ok (.iconst 1, 1) := dk_4 (dk_at dksJ14_compute_5 15 rfl rfl)
theorem dJ14_compute_120 : decode cJ14_compute 120 = .ok (.invokestatic 31, 3) := dk_184 0 31 (dk_at dksJ14_compute_5 16 rfl rfl)
theorem dJ14_compute_123 : decode cJ14_compute 123 = .ok (.dreturn, 1) := dk_175 (dk_at dksJ14_compute_5 19 rfl rfl)
theorem q55 : (Jvm.Cond.initialized "java/lang/FdLibm$Cos") ∈ lw_all := lw_g (lw_at lw_m1 16 rfl) rfl
theorem q299 : (Jvm.Cond.static ({ cls := "java/lang/FdLibm$Cos", name := "__kernel_cos", desc := "(DD)D" } : Jvm.MethodName)) ∈ lw_all := lw_g (lw_at lw_m2 20 rfl) rfl
theorem q300 : (Jvm.Cond.code ({ cls := "java/lang/FdLibm$Cos", name := "__kernel_cos", desc := "(DD)D" } : Jvm.MethodName) prog_12_method_3_code (15 : Nat) (Option.some Jvm.ClassFile.FieldType.double)) ∈ lw_all := lw_g (lw_at lw_m2 21 rfl) rfl
theorem q301 : (Jvm.Cond.methodLinkNest "java/lang/FdLibm$Cos" (12 : Nat) ({ cls := "java/lang/FdLibm", name := "__HI", desc := "(D)I" } : Jvm.MethodName) "java/lang/FdLibm") ∈ lw_tbl := lw_at lw_m2 22 rfl
theorem q302 : (Jvm.Cond.constant "java/lang/FdLibm$Cos" (16 : Nat) (2147483647 : Int32)) ∈ lw_all := lw_g (lw_at lw_m2 23 rfl) rfl
theorem q303 : (Jvm.Cond.constant "java/lang/FdLibm$Cos" (37 : Nat) (1044381696 : Int32)) ∈ lw_all := lw_g (lw_at lw_m2 24 rfl) rfl
theorem q304 : (Jvm.Cond.constantDouble "java/lang/FdLibm$Cos" (38 : Nat) (4586165620538955084 : UInt64)) ∈ lw_all := lw_g (lw_at lw_m2 25 rfl) rfl
theorem q305 : (Jvm.Cond.constantDouble "java/lang/FdLibm$Cos" (40 : Nat) (13787419979223748983 : UInt64)) ∈ lw_all := lw_g (lw_at lw_m2 26 rfl) rfl
theorem q306 : (Jvm.Cond.constantDouble "java/lang/FdLibm$Cos" (42 : Nat) (4537941361668330896 : UInt64)) ∈ lw_all := lw_g (lw_at lw_m2 27 rfl) rfl
theorem q307 : (Jvm.Cond.constantDouble "java/lang/FdLibm$Cos" (44 : Nat) (13732177093731308205 : UInt64)) ∈ lw_all := lw_g (lw_at lw_m2 28 rfl) rfl
theorem q308 : (Jvm.Cond.constantDouble "java/lang/FdLibm$Cos" (46 : Nat) (4477121870137962948 : UInt64)) ∈ lw_all := lw_g (lw_at lw_m2 29 rfl) rfl
theorem q309 : (Jvm.Cond.constantDouble "java/lang/FdLibm$Cos" (48 : Nat) (13666448951086692564 : UInt64)) ∈ lw_all := lw_g (lw_at lw_m2 30 rfl) rfl
theorem q310 : (Jvm.Cond.constant "java/lang/FdLibm$Cos" (50 : Nat) (1070805811 : Int32)) ∈ lw_all := lw_g (lw_at lw_m2 31 rfl) rfl
theorem q311 : (Jvm.Cond.constantDouble "java/lang/FdLibm$Cos" (51 : Nat) (4602678819172646912 : UInt64)) ∈ lw_all := lw_g (lw_at lw_m2 32 rfl) rfl
theorem q312 : (Jvm.Cond.constant "java/lang/FdLibm$Cos" (53 : Nat) (1072234496 : Int32)) ∈ lw_all := lw_g (lw_at lw_m2 33 rfl) rfl
theorem q313 : (Jvm.Cond.constantDouble "java/lang/FdLibm$Cos" (54 : Nat) (4598738169498697728 : UInt64)) ∈ lw_all := lw_g (lw_at lw_m2 34 rfl) rfl
theorem q314 : (Jvm.Cond.constant "java/lang/FdLibm$Cos" (56 : Nat) (2097152 : Int32)) ∈ lw_all := lw_g (lw_at lw_m2 35 rfl) rfl
theorem q315 : (Jvm.Cond.methodLinkNest "java/lang/FdLibm$Cos" (57 : Nat) ({ cls := "java/lang/FdLibm", name := "__HI_LO", desc := "(II)D" } : Jvm.MethodName) "java/lang/FdLibm") ∈ lw_tbl := lw_at lw_m2 36 rfl
theorem q322 : (Jvm.Cond.static ({ cls := "java/lang/FdLibm$Cos", name := "compute", desc := "(D)D" } : Jvm.MethodName)) ∈ lw_all := lw_g (lw_at lw_m2 43 rfl) rfl
theorem q323 : (Jvm.Cond.code ({ cls := "java/lang/FdLibm$Cos", name := "compute", desc := "(D)D" } : Jvm.MethodName) prog_12_method_2_code (7 : Nat) (Option.some Jvm.ClassFile.FieldType.double)) ∈ lw_all := lw_g (lw_at lw_m2 44 rfl) rfl
theorem q324 : (Jvm.Cond.constant "java/lang/FdLibm$Cos" (17 : Nat) (1072243195 : Int32)) ∈ lw_all := lw_g (lw_at lw_m2 45 rfl) rfl
theorem q325 : (Jvm.Cond.methodLink "java/lang/FdLibm$Cos" (18 : Nat) ({ cls := "java/lang/FdLibm$Cos", name := "__kernel_cos", desc := "(DD)D" } : Jvm.MethodName)) ∈ lw_all := lw_g (lw_at lw_m2 46 rfl) rfl
theorem q326 : (Jvm.Cond.constant "java/lang/FdLibm$Cos" (24 : Nat) (2146435072 : Int32)) ∈ lw_all := lw_g (lw_at lw_m2 47 rfl) rfl
theorem q327 : (Jvm.Cond.methodLink "java/lang/FdLibm$Cos" (25 : Nat) ({ cls := "java/lang/FdLibm$RemPio2", name := "__ieee754_rem_pio2", desc := "(D[D)I" } : Jvm.MethodName)) ∈ lw_all := lw_g (lw_at lw_m2 48 rfl) rfl
theorem q328 : (Jvm.Cond.methodLink "java/lang/FdLibm$Cos" (31 : Nat) ({ cls := "java/lang/FdLibm$Sin", name := "__kernel_sin", desc := "(DDI)D" } : Jvm.MethodName)) ∈ lw_all := lw_g (lw_at lw_m2 49 rfl) rfl
/-! java/lang/FdLibm$Tan -/
set_option maxRecDepth 100000
def RJ15 : String := "java/lang/FdLibm$Tan"
abbrev cJ15_compute : ByteArray := prog_16_method_2_code
def yJ15_compute : MethodName := ⟨RJ15, "compute", "(D)D"⟩
def dkwJ15_compute_2 : List UInt8 := [184, 0, 25, 54, 5, 44, 3, 49, 44, 4, 49, 4, 21, 5, 4, 126, 4, 120, 100, 184, 0, 18, 175]
abbrev dktJ15_compute_2 : List UInt8 := dkwJ15_compute_2 ++ []
def dkwJ15_compute_1 : List UInt8 := [163, 0, 10, 38, 41, 4, 184, 0, 18, 175, 21, 6, 18, 24, 161, 0, 7, 38, 38, 103, 175, 38, 44]
abbrev dktJ15_compute_1 : List UInt8 := dkwJ15_compute_1 ++ dktJ15_compute_2
def dkwJ15_compute_0 : List UInt8 := [5, 188, 7, 77, 14, 74, 38, 184, 0, 12, 54, 6, 21, 6, 18, 16, 126, 54, 6, 21, 6, 18, 17]
abbrev dktJ15_compute_0 : List UInt8 := dkwJ15_compute_0 ++ dktJ15_compute_1
theorem dksJ15_compute_0 : cJ15_compute.data.toList.drop 0 = dktJ15_compute_0 := by decide +kernel
theorem dksJ15_compute_1 : cJ15_compute.data.toList.drop 23 = dktJ15_compute_1 := dk_seg dksJ15_compute_0 23 rfl rfl
theorem dksJ15_compute_2 : cJ15_compute.data.toList.drop 46 = dktJ15_compute_2 := dk_seg dksJ15_compute_1 23 rfl rfl
theorem dJ15_compute_0 : decode cJ15_compute 0 = .ok (.iconst 2, 1) := dk_5 (dk_at dksJ15_compute_0 0 rfl rfl)
theorem dJ15_compute_1 : decode cJ15_compute 1 = .ok (.newarray .double, 2) := dk_188_7 (dk_at dksJ15_compute_0 1 rfl rfl)
theorem dJ15_compute_3 : decode cJ15_compute 3 = .ok (.astore_n 2, 1) := dk_77 (dk_at dksJ15_compute_0 3 rfl rfl)
theorem dJ15_compute_4 : decode cJ15_compute 4 = .ok (.dconst 0, 1) := dk_14 (dk_at dksJ15_compute_0 4 rfl rfl)
theorem dJ15_compute_5 : decode cJ15_compute 5 = .ok (.dstore_n 3, 1) := dk_74 (dk_at dksJ15_compute_0 5 rfl rfl)
theorem dJ15_compute_6 : decode cJ15_compute 6 = .ok (.dload_n 0, 1) := dk_38 (dk_at dksJ15_compute_0 6 rfl rfl)
theorem dJ15_compute_7 : decode cJ15_compute 7 = .ok (.invokestatic 12, 3) := dk_184 0 12 (dk_at dksJ15_compute_0 7 rfl rfl)
theorem dJ15_compute_10 : decode cJ15_compute 10 = .ok (.istore 6, 2) := dk_54 6 (dk_at dksJ15_compute_0 10 rfl rfl)
theorem dJ15_compute_12 : decode cJ15_compute 12 = .ok (.iload 6, 2) := dk_21 6 (dk_at dksJ15_compute_0 12 rfl rfl)
theorem dJ15_compute_14 : decode cJ15_compute 14 = .ok (.ldc 16, 2) := dk_18 16 (dk_at dksJ15_compute_0 14 rfl rfl)
theorem dJ15_compute_16 : decode cJ15_compute 16 = .ok (.iand, 1) := dk_126 (dk_at dksJ15_compute_0 16 rfl rfl)
theorem dJ15_compute_17 : decode cJ15_compute 17 = .ok (.istore 6, 2) := dk_54 6 (dk_at dksJ15_compute_0 17 rfl rfl)
theorem dJ15_compute_19 : decode cJ15_compute 19 = .ok (.iload 6, 2) := dk_21 6 (dk_at dksJ15_compute_0 19 rfl rfl)
theorem dJ15_compute_21 : decode cJ15_compute 21 = .ok (.ldc 17, 2) := dk_18 17 (dk_at dksJ15_compute_0 21 rfl rfl)
theorem dJ15_compute_23 : decode cJ15_compute 23 = .ok (.if_icmp .gt 10, 3) := dk_163 0 10 (dk_at dksJ15_compute_1 0 rfl rfl)
theorem dJ15_compute_26 : decode cJ15_compute 26 = .ok (.dload_n 0, 1) := dk_38 (dk_at dksJ15_compute_1 3 rfl rfl)
theorem dJ15_compute_27 : decode cJ15_compute 27 = .ok (.dload_n 3, 1) := dk_41 (dk_at dksJ15_compute_1 4 rfl rfl)
theorem dJ15_compute_28 : decode cJ15_compute 28 = .ok (.iconst 1, 1) := dk_4 (dk_at dksJ15_compute_1 5 rfl rfl)
theorem dJ15_compute_29 : decode cJ15_compute 29 = .ok (.invokestatic 18, 3) := dk_184 0 18 (dk_at dksJ15_compute_1 6 rfl rfl)
theorem dJ15_compute_32 : decode cJ15_compute 32 = .ok (.dreturn, 1) := dk_175 (dk_at dksJ15_compute_1 9 rfl rfl)
theorem dJ15_compute_33 : decode cJ15_compute 33 = .ok (.iload 6, 2) := dk_21 6 (dk_at dksJ15_compute_1 10 rfl rfl)
theorem dJ15_compute_35 : decode cJ15_compute 35 = .ok (.ldc 24, 2) := dk_18 24 (dk_at dksJ15_compute_1 12 rfl rfl)
theorem dJ15_compute_37 : decode cJ15_compute 37 = .ok (.if_icmp .lt 7, 3) := dk_161 0 7 (dk_at dksJ15_compute_1 14 rfl rfl)
theorem dJ15_compute_40 : decode cJ15_compute 40 = .ok (.dload_n 0, 1) := dk_38 (dk_at dksJ15_compute_1 17 rfl rfl)
theorem dJ15_compute_41 : decode cJ15_compute 41 = .ok (.dload_n 0, 1) := dk_38 (dk_at dksJ15_compute_1 18 rfl rfl)
theorem dJ15_compute_42 : decode cJ15_compute 42 = .ok (.dsub, 1) := dk_103 (dk_at dksJ15_compute_1 19 rfl rfl)
theorem dJ15_compute_43 : decode cJ15_compute 43 = .ok (.dreturn, 1) := dk_175 (dk_at dksJ15_compute_1 20 rfl rfl)
theorem dJ15_compute_44 : decode cJ15_compute 44 = .ok (.dload_n 0, 1) := dk_38 (dk_at dksJ15_compute_1 21 rfl rfl)
theorem dJ15_compute_45 : decode cJ15_compute 45 = .ok (.aload_n 2, 1) := dk_44 (dk_at dksJ15_compute_1 22 rfl rfl)
theorem dJ15_compute_46 : decode cJ15_compute 46 = .ok (.invokestatic 25, 3) := dk_184 0 25 (dk_at dksJ15_compute_2 0 rfl rfl)
theorem dJ15_compute_49 : decode cJ15_compute 49 = .ok (.istore 5, 2) := dk_54 5 (dk_at dksJ15_compute_2 3 rfl rfl)
theorem dJ15_compute_51 : decode cJ15_compute 51 = .ok (.aload_n 2, 1) := dk_44 (dk_at dksJ15_compute_2 5 rfl rfl)
theorem dJ15_compute_52 : decode cJ15_compute 52 = .ok (.iconst 0, 1) := dk_3 (dk_at dksJ15_compute_2 6 rfl rfl)
theorem dJ15_compute_53 : decode cJ15_compute 53 = .ok (.daload, 1) := dk_49 (dk_at dksJ15_compute_2 7 rfl rfl)
theorem dJ15_compute_54 : decode cJ15_compute 54 = .ok (.aload_n 2, 1) := dk_44 (dk_at dksJ15_compute_2 8 rfl rfl)
theorem dJ15_compute_55 : decode cJ15_compute 55 = .ok (.iconst 1, 1) := dk_4 (dk_at dksJ15_compute_2 9 rfl rfl)
theorem dJ15_compute_56 : decode cJ15_compute 56 = .ok (.daload, 1) := dk_49 (dk_at dksJ15_compute_2 10 rfl rfl)
theorem dJ15_compute_57 : decode cJ15_compute 57 = .ok (.iconst 1, 1) := dk_4 (dk_at dksJ15_compute_2 11 rfl rfl)
theorem dJ15_compute_58 : decode cJ15_compute 58 = .ok (.iload 5, 2) := dk_21 5 (dk_at dksJ15_compute_2 12 rfl rfl)
theorem dJ15_compute_60 : decode cJ15_compute 60 = .ok (.iconst 1, 1) := dk_4 (dk_at dksJ15_compute_2 14 rfl rfl)
theorem dJ15_compute_61 : decode cJ15_compute 61 = .ok (.iand, 1) := dk_126 (dk_at dksJ15_compute_2 15 rfl rfl)
theorem dJ15_compute_62 : decode cJ15_compute 62 = .ok (.iconst 1, 1) := dk_4 (dk_at dksJ15_compute_2 16 rfl rfl)
theorem dJ15_compute_63 : decode cJ15_compute 63 = .ok (.ishl, 1) := dk_120 (dk_at dksJ15_compute_2 17 rfl rfl)
theorem dJ15_compute_64 : decode cJ15_compute 64 = .ok (.isub, 1) := dk_100 (dk_at dksJ15_compute_2 18 rfl rfl)
theorem dJ15_compute_65 : decode cJ15_compute 65 = .ok (.invokestatic 18, 3) := dk_184 0 18 (dk_at dksJ15_compute_2 19 rfl rfl)
theorem dJ15_compute_68 : decode cJ15_compute 68 = .ok (.dreturn, 1) := dk_175 (dk_at dksJ15_compute_2 22 rfl rfl)
abbrev cJ15___kernel_tan : ByteArray := prog_16_method_3_code
def yJ15___kernel_tan : MethodName := ⟨RJ15, "__kernel_tan", "(DDI)D"⟩
def dkwJ15___kernel_tan_19 : List UInt8 := [99, 175]
abbrev dktJ15___kernel_tan_19 : List UInt8 := dkwJ15___kernel_tan_19 ++ []
def dkwJ15___kernel_tan_18 : List UInt8 := [57, 19, 15, 24, 19, 24, 5, 107, 99, 57, 13, 24, 19, 24, 17, 24, 13, 24, 19, 24, 9, 107, 99, 107]
abbrev dktJ15___kernel_tan_18 : List UInt8 := dkwJ15___kernel_tan_18 ++ dktJ15___kernel_tan_19
def dkwJ15___kernel_tan_17 : List UInt8 := [24, 5, 38, 103, 103, 57, 9, 20, 0, 44, 24, 11, 111, 92, 57, 17, 57, 19, 24, 19, 3, 184, 0, 41]
abbrev dktJ15___kernel_tan_17 : List UInt8 := dkwJ15___kernel_tan_17 ++ dktJ15___kernel_tan_18
def dkwJ15___kernel_tan_16 : List UInt8 := [21, 4, 4, 160, 0, 6, 24, 11, 175, 24, 11, 57, 5, 24, 5, 3, 184, 0, 41, 57, 5, 24, 7]
abbrev dktJ15___kernel_tan_16 : List UInt8 := dkwJ15___kernel_tan_16 ++ dktJ15___kernel_tan_17
def dkwJ15___kernel_tan_15 : List UInt8 := [20, 0, 55, 38, 24, 11, 24, 11, 107, 24, 11, 24, 9, 99, 111, 24, 7, 103, 103, 107, 103, 107, 175]
abbrev dktJ15___kernel_tan_15 : List UInt8 := dkwJ15___kernel_tan_15 ++ dktJ15___kernel_tan_16
def dkwJ15___kernel_tan_14 : List UInt8 := [21, 15, 18, 46, 161, 0, 43, 21, 4, 135, 57, 9, 4, 21, 16, 16, 30, 122, 5, 126, 100, 135, 24, 9]
abbrev dktJ15___kernel_tan_14 : List UInt8 := dkwJ15___kernel_tan_14 ++ dktJ15___kernel_tan_15
def dkwJ15___kernel_tan_13 : List UInt8 := [107, 99, 57, 7, 24, 7, 178, 0, 51, 3, 49, 24, 13, 107, 99, 57, 7, 38, 24, 7, 99, 57, 11]
abbrev dktJ15___kernel_tan_13 : List UInt8 := dkwJ15___kernel_tan_13 ++ dktJ15___kernel_tan_14
def dkwJ15___kernel_tan_12 : List UInt8 := [107, 99, 107, 57, 9, 24, 5, 38, 107, 57, 13, 40, 24, 5, 24, 13, 24, 7, 24, 9, 99, 107, 40, 99]
abbrev dktJ15___kernel_tan_12 : List UInt8 := dkwJ15___kernel_tan_12 ++ dktJ15___kernel_tan_13
def dkwJ15___kernel_tan_11 : List UInt8 := [24, 11, 178, 0, 51, 16, 10, 49, 24, 11, 178, 0, 51, 16, 12, 49, 107, 99, 107, 99, 107, 99, 107, 99]
abbrev dktJ15___kernel_tan_11 : List UInt8 := dkwJ15___kernel_tan_11 ++ dktJ15___kernel_tan_12
def dkwJ15___kernel_tan_10 : List UInt8 := [49, 24, 11, 178, 0, 51, 7, 49, 24, 11, 178, 0, 51, 16, 6, 49, 24, 11, 178, 0, 51, 16, 8, 49]
abbrev dktJ15___kernel_tan_10 : List UInt8 := dkwJ15___kernel_tan_10 ++ dktJ15___kernel_tan_11
def dkwJ15___kernel_tan_9 : List UInt8 := [178, 0, 51, 16, 11, 49, 107, 99, 107, 99, 107, 99, 107, 99, 107, 99, 57, 7, 24, 5, 178, 0, 51, 5]
abbrev dktJ15___kernel_tan_9 : List UInt8 := dkwJ15___kernel_tan_9 ++ dktJ15___kernel_tan_10
def dkwJ15___kernel_tan_8 : List UInt8 := [178, 0, 51, 8, 49, 24, 11, 178, 0, 51, 16, 7, 49, 24, 11, 178, 0, 51, 16, 9, 49, 24, 11]
abbrev dktJ15___kernel_tan_8 : List UInt8 := dkwJ15___kernel_tan_8 ++ dktJ15___kernel_tan_9
def dkwJ15___kernel_tan_7 : List UInt8 := [107, 57, 5, 24, 5, 24, 5, 107, 57, 11, 178, 0, 51, 4, 49, 24, 11, 178, 0, 51, 6, 49, 24, 11]
abbrev dktJ15___kernel_tan_7 : List UInt8 := dkwJ15___kernel_tan_7 ++ dktJ15___kernel_tan_8
def dkwJ15___kernel_tan_6 : List UInt8 := [20, 0, 47, 38, 103, 57, 5, 20, 0, 49, 40, 103, 57, 11, 24, 5, 24, 11, 99, 71, 14, 73, 38, 38]
abbrev dktJ15___kernel_tan_6 : List UInt8 := dkwJ15___kernel_tan_6 ++ dktJ15___kernel_tan_7
def dkwJ15___kernel_tan_5 : List UInt8 := [107, 99, 107, 99, 175, 21, 15, 18, 46, 161, 0, 36, 21, 16, 156, 0, 9, 38, 119, 71, 40, 119, 73]
abbrev dktJ15___kernel_tan_5 : List UInt8 := dkwJ15___kernel_tan_5 ++ dktJ15___kernel_tan_6
def dkwJ15___kernel_tan_4 : List UInt8 := [184, 0, 41, 57, 19, 15, 24, 19, 24, 5, 107, 99, 57, 13, 24, 19, 24, 17, 24, 13, 24, 19, 24, 9]
abbrev dktJ15___kernel_tan_4 : List UInt8 := dkwJ15___kernel_tan_4 ++ dktJ15___kernel_tan_5
def dkwJ15___kernel_tan_3 : List UInt8 := [57, 5, 40, 24, 5, 38, 103, 103, 57, 9, 20, 0, 44, 24, 11, 111, 92, 57, 17, 57, 19, 24, 19, 3]
abbrev dktJ15___kernel_tan_3 : List UInt8 := dkwJ15___kernel_tan_3 ++ dktJ15___kernel_tan_4
def dkwJ15___kernel_tan_2 : List UInt8 := [175, 21, 4, 4, 160, 0, 5, 38, 175, 38, 40, 99, 92, 57, 11, 57, 5, 24, 5, 3, 184, 0, 41]
abbrev dktJ15___kernel_tan_2 : List UInt8 := dkwJ15___kernel_tan_2 ++ dktJ15___kernel_tan_3
def dkwJ15___kernel_tan_1 : List UInt8 := [154, 0, 100, 21, 15, 38, 184, 0, 32, 128, 21, 4, 4, 96, 128, 154, 0, 10, 15, 38, 184, 0, 35, 111]
abbrev dktJ15___kernel_tan_1 : List UInt8 := dkwJ15___kernel_tan_1 ++ dktJ15___kernel_tan_2
def dkwJ15___kernel_tan_0 : List UInt8 := [38, 184, 0, 12, 54, 16, 21, 16, 18, 16, 126, 54, 15, 21, 15, 18, 31, 162, 0, 105, 38, 142]
abbrev dktJ15___kernel_tan_0 : List UInt8 := dkwJ15___kernel_tan_0 ++ dktJ15___kernel_tan_1
theorem dksJ15___kernel_tan_0 : cJ15___kernel_tan.data.toList.drop 0 = dktJ15___kernel_tan_0 := by decide +kernel
theorem dksJ15___kernel_tan_1 : cJ15___kernel_tan.data.toList.drop 22 = dktJ15___kernel_tan_1 := dk_seg dksJ15___kernel_tan_0 22 rfl rfl
theorem dksJ15___kernel_tan_2 : cJ15___kernel_tan.data.toList.drop 46 = dktJ15___kernel_tan_2 := dk_seg dksJ15___kernel_tan_1 24 rfl rfl
theorem dksJ15___kernel_tan_3 : cJ15___kernel_tan.data.toList.drop 69 = dktJ15___kernel_tan_3 := dk_seg dksJ15___kernel_tan_2 23 rfl rfl
theorem dksJ15___kernel_tan_4 : cJ15___kernel_tan.data.toList.drop 93 = dktJ15___kernel_tan_4 := dk_seg dksJ15___kernel_tan_3 24 rfl rfl
theorem dksJ15___kernel_tan_5 : cJ15___kernel_tan.data.toList.drop 117 = dktJ15___kernel_tan_5 := dk_seg dksJ15___kernel_tan_4 24 rfl rfl
theorem dksJ15___kernel_tan_6 : cJ15___kernel_tan.data.toList.drop 140 = dktJ15___kernel_tan_6 := dk_seg dksJ15___kernel_tan_5 23 rfl rfl
theorem dksJ15___kernel_tan_7 : cJ15___kernel_tan.data.toList.drop 164 = dktJ15___kernel_tan_7 := dk_seg dksJ15___kernel_tan_6 24 rfl rfl
theorem dksJ15___kernel_tan_8 : cJ15___kernel_tan.data.toList.drop 188 = dktJ15___kernel_tan_8 := dk_seg dksJ15___kernel_tan_7 24 rfl rfl
theorem dksJ15___kernel_tan_9 : cJ15___kernel_tan.data.toList.drop 211 = dktJ15___kernel_tan_9 := dk_seg dksJ15___kernel_tan_8 23 rfl rfl
theorem dksJ15___kernel_tan_10 : cJ15___kernel_tan.data.toList.drop 235 = dktJ15___kernel_tan_10 := dk_seg dksJ15___kernel_tan_9 24 rfl rfl
theorem dksJ15___kernel_tan_11 : cJ15___kernel_tan.data.toList.drop 259 = dktJ15___kernel_tan_11 := dk_seg dksJ15___kernel_tan_10 24 rfl rfl
theorem dksJ15___kernel_tan_12 : cJ15___kernel_tan.data.toList.drop 283 = dktJ15___kernel_tan_12 := dk_seg dksJ15___kernel_tan_11 24 rfl rfl
theorem dksJ15___kernel_tan_13 : cJ15___kernel_tan.data.toList.drop 307 = dktJ15___kernel_tan_13 := dk_seg dksJ15___kernel_tan_12 24 rfl rfl
theorem dksJ15___kernel_tan_14 : cJ15___kernel_tan.data.toList.drop 330 = dktJ15___kernel_tan_14 := dk_seg dksJ15___kernel_tan_13 23 rfl rfl
theorem dksJ15___kernel_tan_15 : cJ15___kernel_tan.data.toList.drop 354 = dktJ15___kernel_tan_15 := dk_seg dksJ15___kernel_tan_14 24 rfl rfl
theorem dksJ15___kernel_tan_16 : cJ15___kernel_tan.data.toList.drop 377 = dktJ15___kernel_tan_16 := dk_seg dksJ15___kernel_tan_15 23 rfl rfl
theorem dksJ15___kernel_tan_17 : cJ15___kernel_tan.data.toList.drop 400 = dktJ15___kernel_tan_17 := dk_seg dksJ15___kernel_tan_16 23 rfl rfl
theorem dksJ15___kernel_tan_18 : cJ15___kernel_tan.data.toList.drop 424 = dktJ15___kernel_tan_18 := dk_seg dksJ15___kernel_tan_17 24 rfl rfl
theorem dksJ15___kernel_tan_19 : cJ15___kernel_tan.data.toList.drop 448 = dktJ15___kernel_tan_19 := dk_seg dksJ15___kernel_tan_18 24 rfl rfl
theorem dJ15___kernel_tan_0 : decode cJ15___kernel_tan 0 = .ok (.dload_n 0, 1) := dk_38 (dk_at dksJ15___kernel_tan_0 0 rfl rfl)
theorem dJ15___kernel_tan_1 : decode cJ15___kernel_tan 1 = .ok (.invokestatic 12, 3) := dk_184 0 12 (dk_at dksJ15___kernel_tan_0 1 rfl rfl)
theorem dJ15___kernel_tan_4 : decode cJ15___kernel_tan 4 = .ok (.istore 16, 2) := dk_54 16 (dk_at dksJ15___kernel_tan_0 4 rfl rfl)
theorem dJ15___kernel_tan_6 : decode cJ15___kernel_tan 6 = .ok (.iload 16, 2) := dk_21 16 (dk_at dksJ15___kernel_tan_0 6 rfl rfl)
theorem dJ15___kernel_tan_8 : decode cJ15___kernel_tan 8 = .ok (.ldc 16, 2) := dk_18 16 (dk_at dksJ15___kernel_tan_0 8 rfl rfl)
theorem dJ15___kernel_tan_10 : decode cJ15___kernel_tan 10 = .ok (.iand, 1) := dk_126 (dk_at dksJ15___kernel_tan_0 10 rfl rfl)
theorem dJ15___kernel_tan_11 : decode cJ15___kernel_tan 11 = .ok (.istore 15, 2) := dk_54 15 (dk_at dksJ15___kernel_tan_0 11 rfl rfl)
theorem dJ15___kernel_tan_13 : decode cJ15___kernel_tan 13 = .ok (.iload 15, 2) := dk_21 15 (dk_at dksJ15___kernel_tan_0 13 rfl rfl)
theorem dJ15___kernel_tan_15 : decode cJ15___kernel_tan 15 = .ok (.ldc 31, 2) := dk_18 31 (dk_at dksJ15___kernel_tan_0 15 rfl rfl)
theorem dJ15___kernel_tan_17 : decode cJ15___kernel_tan 17 = .ok (.if_icmp .ge 105, 3) := dk_162 0 105 (dk_at dksJ15___kernel_tan_0 17 rfl rfl)
theorem dJ15___kernel_tan_20 : decode cJ15___kernel_tan 20 = .ok (.dload_n 0, 1) := dk_38 (dk_at dksJ15___kernel_tan_0 20 rfl rfl)
theorem dJ15___kernel_tan_21 : decode cJ15___kernel_tan 21 = .ok (.d2i, 1) := dk_142 (dk_at dksJ15___kernel_tan_0 21 rfl rfl)
theorem dJ15___kernel_tan_22 : decode cJ15___kernel_tan 22 = .ok (.ifCond .ne 100, 3) := dk_154 0 100 (dk_at dksJ15___kernel_tan_1 0 rfl rfl)
theorem dJ15___kernel_tan_25 : decode cJ15___kernel_tan 25 = .ok (.iload 15, 2) := dk_21 15 (dk_at dksJ15___kernel_tan_1 3 rfl rfl)
theorem dJ15___kernel_tan_27 : decode cJ15___kernel_tan 27 = .ok (.dload_n 0, 1) := dk_38 (dk_at dksJ15___kernel_tan_1 5 rfl rfl)
theorem dJ15___kernel_tan_28 : decode cJ15___kernel_tan 28 = .ok (.invokestatic 32, 3) := dk_184 0 32 (dk_at dksJ15___kernel_tan_1 6 rfl rfl)
theorem dJ15___kernel_tan_31 : decode cJ15___kernel_tan 31 = .ok (.ior, 1) := dk_128 (dk_at dksJ15___kernel_tan_1 9 rfl rfl)
theorem dJ15___kernel_tan_32 : decode cJ15___kernel_tan 32 = .ok (.iload 4, 2) := dk_21 4 (dk_at dksJ15___kernel_tan_1 10 rfl rfl)
theorem dJ15___kernel_tan_34 : decode cJ15___kernel_tan 34 = .ok (.iconst 1, 1) := dk_4 (dk_at dksJ15___kernel_tan_1 12 rfl rfl)
theorem dJ15___kernel_tan_35 : decode cJ15___kernel_tan 35 = .ok (.iadd, 1) := dk_96 (dk_at dksJ15___kernel_tan_1 13 rfl rfl)
theorem dJ15___kernel_tan_36 : decode cJ15___kernel_tan 36 = .ok (.ior, 1) := dk_128 (dk_at dksJ15___kernel_tan_1 14 rfl rfl)
theorem dJ15___kernel_tan_37 : decode cJ15___kernel_tan 37 = .ok (.ifCond .ne 10, 3) := dk_154 0 10 (dk_at dksJ15___kernel_tan_1 15 rfl rfl)
theorem dJ15___kernel_tan_40 : decode cJ15___kernel_tan 40 = .ok (.dconst 1, 1) := dk_15 (dk_at dksJ15___kernel_tan_1 18 rfl rfl)
theorem dJ15___kernel_tan_41 : decode cJ15___kernel_tan 41 = .ok (.dload_n 0, 1) := dk_38 (dk_at dksJ15___kernel_tan_1 19 rfl rfl)
theorem dJ15___kernel_tan_42 : decode cJ15___kernel_tan 42 = .ok (.invokestatic 35, 3) := dk_184 0 35 (dk_at dksJ15___kernel_tan_1 20 rfl rfl)
theorem dJ15___kernel_tan_45 : decode cJ15___kernel_tan 45 = .ok (.ddiv, 1) := dk_111 (dk_at dksJ15___kernel_tan_1 23 rfl rfl)
theorem dJ15___kernel_tan_46 : decode cJ15___kernel_tan 46 = .ok (.dreturn, 1) := dk_175 (dk_at dksJ15___kernel_tan_2 0 rfl rfl)
theorem dJ15___kernel_tan_47 : decode cJ15___kernel_tan 47 = .ok (.iload 4, 2) := dk_21 4 (dk_at dksJ15___kernel_tan_2 1 rfl rfl)
theorem dJ15___kernel_tan_49 : decode cJ15___kernel_tan 49 = .ok (.iconst 1, 1) := dk_4 (dk_at dksJ15___kernel_tan_2 3 rfl rfl)
theorem dJ15___kernel_tan_50 : decode cJ15___kernel_tan 50 = .ok (.if_icmp .ne 5, 3) := dk_160 0 5 (dk_at dksJ15___kernel_tan_2 4 rfl rfl)
theorem dJ15___kernel_tan_53 : decode cJ15___kernel_tan 53 = .ok (.dload_n 0, 1) := dk_38 (dk_at dksJ15___kernel_tan_2 7 rfl rfl)
theorem dJ15___kernel_tan_54 : decode cJ15___kernel_tan 54 = .ok (.dreturn, 1) := dk_175 (dk_at dksJ15___kernel_tan_2 8 rfl rfl)
theorem dJ15___kernel_tan_55 : decode cJ15___kernel_tan 55 = .ok (.dload_n 0, 1) := dk_38 (dk_at dksJ15___kernel_tan_2 9 rfl rfl)
theorem dJ15___kernel_tan_56 : decode cJ15___kernel_tan 56 = .ok (.dload_n 2, 1) := dk_40 (dk_at dksJ15___kernel_tan_2 10 rfl rfl)
theorem dJ15___kernel_tan_57 : decode cJ15___kernel_tan 57 = .ok (.dadd, 1) := dk_99 (dk_at dksJ15___kernel_tan_2 11 rfl rfl)
theorem dJ15___kernel_tan_58 : decode cJ15___kernel_tan 58 = .ok (.dup2, 1) := dk_92 (dk_at dksJ15___kernel_tan_2 12 rfl rfl)
theorem dJ15___kernel_tan_59 : decode cJ15___kernel_tan 59 = .ok (.dstore 11, 2) := dk_57 11 (dk_at dksJ15___kernel_tan_2 13 rfl rfl)
theorem dJ15___kernel_tan_61 : decode cJ15___kernel_tan 61 = .ok (.dstore 5, 2) := dk_57 5 (dk_at dksJ15___kernel_tan_2 15 rfl rfl)
theorem dJ15___kernel_tan_63 : decode cJ15___kernel_tan 63 = .ok (.dload 5, 2) := dk_24 5 (dk_at dksJ15___kernel_tan_2 17 rfl rfl)
theorem dJ15___kernel_tan_65 : decode cJ15___kernel_tan 65 = .ok (.iconst 0, 1) := dk_3 (dk_at dksJ15___kernel_tan_2 19 rfl rfl)
theorem dJ15___kernel_tan_66 : decode cJ15___kernel_tan 66 = .ok (.invokestatic 41, 3) := dk_184 0 41 (dk_at dksJ15___kernel_tan_2 20 rfl rfl)
theorem dJ15___kernel_tan_69 : decode cJ15___kernel_tan 69 = .ok (.dstore 5, 2) := dk_57 5 (dk_at dksJ15___kernel_tan_3 0 rfl rfl)
theorem dJ15___kernel_tan_71 : decode cJ15___kernel_tan 71 = .ok (.dload_n 2, 1) := dk_40 (dk_at dksJ15___kernel_tan_3 2 rfl rfl)
theorem dJ15___kernel_tan_72 : decode cJ15___kernel_tan 72 = .ok (.dload 5, 2) := dk_24 5 (dk_at dksJ15___kernel_tan_3 3 rfl rfl)
theorem dJ15___kernel_tan_74 : decode cJ15___kernel_tan 74 = .ok (.dload_n 0, 1) := dk_38 (dk_at dksJ15___kernel_tan_3 5 rfl rfl)
theorem dJ15___kernel_tan_75 : decode cJ15___kernel_tan 75 = .ok (.dsub, 1) := dk_103 (dk_at dksJ15___kernel_tan_3 6 rfl rfl)
theorem dJ15___kernel_tan_76 : decode cJ15___kernel_tan 76 = .ok (.dsub, 1) := dk_103 (dk_at dksJ15___kernel_tan_3 7 rfl rfl)
theorem dJ15___kernel_tan_77 : decode cJ15___kernel_tan 77 = .ok (.dstore 9, 2) := dk_57 9 (dk_at dksJ15___kernel_tan_3 8 rfl rfl)
theorem dJ15___kernel_tan_79 : decode cJ15___kernel_tan 79 = .ok (.ldc2_w 44, 3) := dk_20 0 44 (dk_at dksJ15___kernel_tan_3 10 rfl rfl)
theorem dJ15___kernel_tan_82 : decode cJ15___kernel_tan 82 = .ok (.dload 11, 2) := dk_24 11 (dk_at dksJ15___kernel_tan_3 13 rfl rfl)
theorem dJ15___kernel_tan_84 : decode cJ15___kernel_tan 84 = .ok (.ddiv, 1) := dk_111 (dk_at dksJ15___kernel_tan_3 15 rfl rfl)
theorem dJ15___kernel_tan_85 : decode cJ15___kernel_tan 85 = .ok (.dup2, 1) := dk_92 (dk_at dksJ15___kernel_tan_3 16 rfl rfl)
theorem dJ15___kernel_tan_86 : decode cJ15___kernel_tan 86 = .ok (.dstore 17, 2) := dk_57 17 (dk_at dksJ15___kernel_tan_3 17 rfl rfl)
theorem dJ15___kernel_tan_88 : decode cJ15___kernel_tan 88 = .ok (.dstore 19, 2) := dk_57 19 (dk_at dksJ15___kernel_tan_3 19 rfl rfl)
theorem dJ15___kernel_tan_90 : decode cJ15___kernel_tan 90 = .ok (.dload 19, 2) := dk_24 19 (dk_at dksJ15___kernel_tan_3 21 rfl rfl)
theorem dJ15___kernel_tan_92 : decode cJ15___kernel_tan 92 = .ok (.iconst 0, 1) := dk_3 (dk_at dksJ15___kernel_tan_3 23 rfl rfl)
theorem dJ15___kernel_tan_93 : decode cJ15___kernel_tan 93 = .ok (.invokestatic 41, 3) := dk_184 0 41 (dk_at dksJ15___kernel_tan_4 0 rfl rfl)
theorem dJ15___kernel_tan_96 : decode cJ15___kernel_tan 96 = .ok (.dstore 19, 2) := dk_57 19 (dk_at dksJ15___kernel_tan_4 3 rfl rfl)
theorem dJ15___kernel_tan_98 : decode cJ15___kernel_tan 98 = .ok (.dconst 1, 1) := dk_15 (dk_at dksJ15___kernel_tan_4 5 rfl rfl)
theorem dJ15___kernel_tan_99 : decode cJ15___kernel_tan 99 = .ok (.dload 19, 2) := dk_24 19 (dk_at dksJ15___kernel_tan_4 6 rfl rfl)
theorem dJ15___kernel_tan_101 : decode cJ15___kernel_tan 101 = .ok (.dload 5, 2) := dk_24 5 (dk_at dksJ15___kernel_tan_4 8 rfl rfl)
theorem dJ15___kernel_tan_103 : decode cJ15___kernel_tan 103 = .ok (.dmul, 1) := dk_107 (dk_at dksJ15___kernel_tan_4 10 rfl rfl)
theorem dJ15___kernel_tan_104 : decode cJ15___kernel_tan 104 = .ok (.dadd, 1) := dk_99 (dk_at dksJ15___kernel_tan_4 11 rfl rfl)
theorem dJ15___kernel_tan_105 : decode cJ15___kernel_tan 105 = .ok (.dstore 13, 2) := dk_57 13 (dk_at dksJ15___kernel_tan_4 12 rfl rfl)
theorem dJ15___kernel_tan_107 : decode cJ15___kernel_tan 107 = .ok (.dload 19, 2) := dk_24 19 (dk_at dksJ15___kernel_tan_4 14 rfl rfl)
theorem dJ15___kernel_tan_109 : decode cJ15___kernel_tan 109 = .ok (.dload 17, 2) := dk_24 17 (dk_at dksJ15___kernel_tan_4 16 rfl rfl)
theorem dJ15___kernel_tan_111 : decode cJ15___kernel_tan 111 = .ok (.dload 13, 2) := dk_24 13 (dk_at dksJ15___kernel_tan_4 18 rfl rfl)
theorem dJ15___kernel_tan_113 : decode cJ15___kernel_tan 113 = .ok (.dload 19, 2) := dk_24 19 (dk_at dksJ15___kernel_tan_4 20 rfl rfl)
theorem dJ15___kernel_tan_115 : decode cJ15___kernel_tan 115 = .ok (.dload 9, 2) := dk_24 9 (dk_at dksJ15___kernel_tan_4 22 rfl rfl)
theorem dJ15___kernel_tan_117 : decode cJ15___kernel_tan 117 = .ok (.dmul, 1) := dk_107 (dk_at dksJ15___kernel_tan_5 0 rfl rfl)
theorem dJ15___kernel_tan_118 : decode cJ15___kernel_tan 118 = .ok (.dadd, 1) := dk_99 (dk_at dksJ15___kernel_tan_5 1 rfl rfl)
theorem dJ15___kernel_tan_119 : decode cJ15___kernel_tan 119 = .ok (.dmul, 1) := dk_107 (dk_at dksJ15___kernel_tan_5 2 rfl rfl)
theorem dJ15___kernel_tan_120 : decode cJ15___kernel_tan 120 = .ok (.dadd, 1) := dk_99 (dk_at dksJ15___kernel_tan_5 3 rfl rfl)
theorem dJ15___kernel_tan_121 : decode cJ15___kernel_tan 121 = .ok (.dreturn, 1) := dk_175 (dk_at dksJ15___kernel_tan_5 4 rfl rfl)
theorem dJ15___kernel_tan_122 : decode cJ15___kernel_tan 122 = .ok (.iload 15, 2) := dk_21 15 (dk_at dksJ15___kernel_tan_5 5 rfl rfl)
theorem dJ15___kernel_tan_124 : decode cJ15___kernel_tan 124 = .ok (.ldc 46, 2) := dk_18 46 (dk_at dksJ15___kernel_tan_5 7 rfl rfl)
theorem dJ15___kernel_tan_126 : decode cJ15___kernel_tan 126 = .ok (.if_icmp .lt 36, 3) := dk_161 0 36 (dk_at dksJ15___kernel_tan_5 9 rfl rfl)
theorem dJ15___kernel_tan_129 : decode cJ15___kernel_tan 129 = .ok (.iload 16, 2) := dk_21 16 (dk_at dksJ15___kernel_tan_5 12 rfl rfl)
theorem dJ15___kernel_tan_131 : decode cJ15___kernel_tan 131 = .ok (.ifCond .ge 9, 3) := dk_156 0 9 (dk_at dksJ15___kernel_tan_5 14 rfl rfl)
theorem dJ15___kernel_tan_134 : decode cJ15___kernel_tan 134 = .ok (.dload_n 0, 1) := dk_38 (dk_at dksJ15___kernel_tan_5 17 rfl rfl)
theorem dJ15___kernel_tan_135 : decode cJ15___kernel_tan 135 = .ok (.dneg, 1) := dk_119 (dk_at dksJ15___kernel_tan_5 18 rfl rfl)
theorem dJ15___kernel_tan_136 : decode cJ15___kernel_tan 136 = .ok (.dstore_n 0, 1) := dk_71 (dk_at dksJ15___kernel_tan_5 19 rfl rfl)
theorem dJ15___kernel_tan_137 : decode cJ15___kernel_tan 137 = .ok (.dload_n 2, 1) := dk_40 (dk_at dksJ15___kernel_tan_5 20 rfl rfl)
theorem dJ15___kernel_tan_138 : decode cJ15___kernel_tan 138 = .ok (.dneg, 1) := dk_119 (dk_at dksJ15___kernel_tan_5 21 rfl rfl)
theorem dJ15___kernel_tan_139 : decode cJ15___kernel_tan 139 = .ok (.dstore_n 2, 1) := dk_73 (dk_at dksJ15___kernel_tan_5 22 rfl rfl)
theorem dJ15___kernel_tan_140 : decode cJ15___kernel_tan 140 = .ok (.ldc2_w 47, 3) := dk_20 0 47 (dk_at dksJ15___kernel_tan_6 0 rfl rfl)
theorem dJ15___kernel_tan_143 : decode cJ15___kernel_tan 143 = .ok (.dload_n 0, 1) := dk_38 (dk_at dksJ15___kernel_tan_6 3 rfl rfl)
theorem dJ15___kernel_tan_144 : decode cJ15___kernel_tan 144 = .ok (.dsub, 1) := dk_103 (dk_at dksJ15___kernel_tan_6 4 rfl rfl)
theorem dJ15___kernel_tan_145 : decode cJ15___kernel_tan 145 = .ok (.dstore 5, 2) := dk_57 5 (dk_at dksJ15___kernel_tan_6 5 rfl rfl)
theorem dJ15___kernel_tan_147 : decode cJ15___kernel_tan 147 = .ok (.ldc2_w 49, 3) := dk_20 0 49 (dk_at dksJ15___kernel_tan_6 7 rfl rfl)
theorem dJ15___kernel_tan_150 : decode cJ15___kernel_tan 150 = .ok (.dload_n 2, 1) := dk_40 (dk_at dksJ15___kernel_tan_6 10 rfl rfl)
theorem dJ15___kernel_tan_151 : decode cJ15___kernel_tan 151 = .ok (.dsub, 1) := dk_103 (dk_at dksJ15___kernel_tan_6 11 rfl rfl)
theorem dJ15___kernel_tan_152 : decode cJ15___kernel_tan 152 = .ok (.dstore 11, 2) := dk_57 11 (dk_at dksJ15___kernel_tan_6 12 rfl rfl)
theorem dJ15___kernel_tan_154 : decode cJ15___kernel_tan 154 = .ok (.dload 5, 2) := dk_24 5 (dk_at dksJ15___kernel_tan_6 14 rfl rfl)
theorem dJ15___kernel_tan_156 : decode cJ15___kernel_tan 156 = .ok (.dload 11, 2) := dk_24 11 (dk_at dksJ15___kernel_tan_6 16 rfl rfl)
theorem dJ15___kernel_tan_158 : decode cJ15___kernel_tan 158 = .ok (.dadd, 1) := dk_99 (dk_at dksJ15___kernel_tan_6 18 rfl rfl)
theorem dJ15___kernel_tan_159 : decode cJ15___kernel_tan 159 = .ok (.dstore_n 0, 1) := dk_71 (dk_at dksJ15___kernel_tan_6 19 rfl rfl)
theorem dJ15___kernel_tan_160 : decode cJ15___kernel_tan 160 = .ok (.dconst 0, 1) := dk_14 (dk_at dksJ15___kernel_tan_6 20 rfl rfl)
theorem dJ15___kernel_tan_161 : decode cJ15___kernel_tan 161 = .ok (.dstore_n 2, 1) := dk_73 (dk_at dksJ15___kernel_tan_6 21 rfl rfl)
theorem dJ15___kernel_tan_162 : decode cJ15___kernel_tan 162 = .ok (.dload_n 0, 1) := dk_38 (dk_at dksJ15___kernel_tan_6 22 rfl rfl)
theorem dJ15___kernel_tan_163 : decode cJ15___kernel_tan 163 = .ok (.dload_n 0, 1) := dk_38 (dk_at dksJ15___kernel_tan_6 23 rfl rfl)
theorem dJ15___kernel_tan_164 : decode cJ15___kernel_tan 164 = .ok (.dmul, 1) := dk_107 (dk_at dksJ15___kernel_tan_7 0 rfl rfl)
theorem dJ15___kernel_tan_165 : decode cJ15___kernel_tan 165 = .ok (.dstore 5, 2) := dk_57 5 (dk_at dksJ15___kernel_tan_7 1 rfl rfl)
theorem dJ15___kernel_tan_167 : decode cJ15___kernel_tan 167 = .ok (.dload 5, 2) := dk_24 5 (dk_at dksJ15___kernel_tan_7 3 rfl rfl)
theorem dJ15___kernel_tan_169 : decode cJ15___kernel_tan 169 = .ok (.dload 5, 2) := dk_24 5 (dk_at dksJ15___kernel_tan_7 5 rfl rfl)
theorem dJ15___kernel_tan_171 : decode cJ15___kernel_tan 171 = .ok (.dmul, 1) := dk_107 (dk_at dksJ15___kernel_tan_7 7 rfl rfl)
theorem dJ15___kernel_tan_172 : decode cJ15___kernel_tan 172 = .ok (.dstore 11, 2) := dk_57 11 (dk_at dksJ15___kernel_tan_7 8 rfl rfl)
theorem dJ15___kernel_tan_174 : decode cJ15___kernel_tan 174 = .ok (.getstatic 51, 3) := dk_178 0 51 (dk_at dksJ15___kernel_tan_7 10 rfl rfl)
theorem dJ15___kernel_tan_177 : decode cJ15___kernel_tan 177 = .ok (.iconst 1, 1) := dk_4 (dk_at dksJ15___kernel_tan_7 13 rfl rfl)
theorem dJ15___kernel_tan_178 : decode cJ15___kernel_tan 178 = .ok (.daload, 1) := dk_49 (dk_at dksJ15___kernel_tan_7 14 rfl rfl)
theorem dJ15___kernel_tan_179 : decode cJ15___kernel_tan 179 = .ok (.dload 11, 2) := dk_24 11 (dk_at dksJ15___kernel_tan_7 15 rfl rfl)
theorem dJ15___kernel_tan_181 : decode cJ15___kernel_tan 181 = .ok (.getstatic 51, 3) := dk_178 0 51 (dk_at dksJ15___kernel_tan_7 17 rfl rfl)
theorem dJ15___kernel_tan_184 : decode cJ15___kernel_tan 184 = .ok (.iconst 3, 1) := dk_6 (dk_at dksJ15___kernel_tan_7 20 rfl rfl)
theorem dJ15___kernel_tan_185 : decode cJ15___kernel_tan 185 = .ok (.daload, 1) := dk_49 (dk_at dksJ15___kernel_tan_7 21 rfl rfl)
theorem dJ15___kernel_tan_186 : decode cJ15___kernel_tan 186 = .ok (.dload 11, 2) := dk_24 11 (dk_at dksJ15___kernel_tan_7 22 rfl rfl)
theorem dJ15___kernel_tan_188 : decode cJ15___kernel_tan 188 = .ok (.getstatic 51, 3) := dk_178 0 51 (dk_at dksJ15___kernel_tan_8 0 rfl rfl)
theorem dJ15___kernel_tan_191 : decode cJ15___kernel_tan 191 = .ok (.iconst 5, 1) := dk_8 (dk_at dksJ15___kernel_tan_8 3 rfl rfl)
theorem dJ15___kernel_tan_192 : decode cJ15___kernel_tan 192 = .ok (.daload, 1) := dk_49 (dk_at dksJ15___kernel_tan_8 4 rfl rfl)
theorem dJ15___kernel_tan_193 : decode cJ15___kernel_tan 193 = .ok (.dload 11, 2) := dk_24 11 (dk_at dksJ15___kernel_tan_8 5 rfl rfl)
theorem dJ15___kernel_tan_195 : decode cJ15___kernel_tan 195 = .ok (.getstatic 51, 3) := dk_178 0 51 (dk_at dksJ15___kernel_tan_8 7 rfl rfl)
theorem dJ15___kernel_tan_198 : decode cJ15___kernel_tan 198 = .ok (.bipush 7, 2) := dk_16 7 (dk_at dksJ15___kernel_tan_8 10 rfl rfl)
theorem dJ15___kernel_tan_200 : decode cJ15___kernel_tan 200 = .ok (.daload, 1) := dk_49 (dk_at dksJ15___kernel_tan_8 12 rfl rfl)
theorem dJ15___kernel_tan_201 : decode cJ15___kernel_tan 201 = .ok (.dload 11, 2) := dk_24 11 (dk_at dksJ15___kernel_tan_8 13 rfl rfl)
theorem dJ15___kernel_tan_203 : decode cJ15___kernel_tan 203 = .ok (.getstatic 51, 3) := dk_178 0 51 (dk_at dksJ15___kernel_tan_8 15 rfl rfl)
theorem dJ15___kernel_tan_206 : decode cJ15___kernel_tan 206 = .ok (.bipush 9, 2) := dk_16 9 (dk_at dksJ15___kernel_tan_8 18 rfl rfl)
theorem dJ15___kernel_tan_208 : decode cJ15___kernel_tan 208 = .ok (.daload, 1) := dk_49 (dk_at dksJ15___kernel_tan_8 20 rfl rfl)
theorem dJ15___kernel_tan_209 : decode cJ15___kernel_tan 209 = .ok (.dload 11, 2) := dk_24 11 (dk_at dksJ15___kernel_tan_8 21 rfl rfl)
theorem dJ15___kernel_tan_211 : decode cJ15___kernel_tan 211 = .ok (.getstatic 51, 3) := dk_178 0 51 (dk_at dksJ15___kernel_tan_9 0 rfl rfl)
theorem dJ15___kernel_tan_214 : decode cJ15___kernel_tan 214 = .ok (.bipush 11, 2) := dk_16 11 (dk_at dksJ15___kernel_tan_9 3 rfl rfl)
theorem dJ15___kernel_tan_216 : decode cJ15___kernel_tan 216 = .ok (.daload, 1) := dk_49 (dk_at dksJ15___kernel_tan_9 5 rfl rfl)
theorem dJ15___kernel_tan_217 : decode cJ15___kernel_tan 217 = .ok (.dmul, 1) := dk_107 (dk_at dksJ15___kernel_tan_9 6 rfl rfl)
theorem dJ15___kernel_tan_218 : decode cJ15___kernel_tan 218 = .ok (.dadd, 1) := dk_99 (dk_at dksJ15___kernel_tan_9 7 rfl rfl)
theorem dJ15___kernel_tan_219 : decode cJ15___kernel_tan 219 = .ok (.dmul, 1) := dk_107 (dk_at dksJ15___kernel_tan_9 8 rfl rfl)
theorem dJ15___kernel_tan_220 : decode cJ15___kernel_tan 220 = .ok (.dadd, 1) := dk_99 (dk_at dksJ15___kernel_tan_9 9 rfl rfl)
theorem dJ15___kernel_tan_221 : decode cJ15___kernel_tan 221 = .ok (.dmul, 1) := dk_107 (dk_at dksJ15___kernel_tan_9 10 rfl rfl)
theorem dJ15___kernel_tan_222 : decode cJ15___kernel_tan 222 = .ok (.dadd, 1) := dk_99 (dk_at dksJ15___kernel_tan_9 11 rfl rfl)
theorem dJ15___kernel_tan_223 : decode cJ15___kernel_tan 223 = .ok (.dmul, 1) := dk_107 (dk_at dksJ15___kernel_tan_9 12 rfl rfl)
theorem dJ15___kernel_tan_224 : decode cJ15___kernel_tan 224 = .ok (.dadd, 1) := dk_99 (dk_at dksJ15___kernel_tan_9 13 rfl rfl)
theorem dJ15___kernel_tan_225 : decode cJ15___kernel_tan 225 = .ok (.dmul, 1) := dk_107 (dk_at dksJ15___kernel_tan_9 14 rfl rfl)
theorem dJ15___kernel_tan_226 : decode cJ15___kernel_tan 226 = .ok (.dadd, 1) := dk_99 (dk_at dksJ15___kernel_tan_9 15 rfl rfl)
theorem dJ15___kernel_tan_227 : decode cJ15___kernel_tan 227 = .ok (.dstore 7, 2) := dk_57 7 (dk_at dksJ15___kernel_tan_9 16 rfl rfl)
theorem dJ15___kernel_tan_229 : decode cJ15___kernel_tan 229 = .ok (.dload 5, 2) := dk_24 5 (dk_at dksJ15___kernel_tan_9 18 rfl rfl)
theorem dJ15___kernel_tan_231 : decode cJ15___kernel_tan 231 = .ok (.getstatic 51, 3) := dk_178 0 51 (dk_at dksJ15___kernel_tan_9 20 rfl rfl)
theorem dJ15___kernel_tan_234 : decode cJ15___kernel_tan 234 = .ok (.iconst 2, 1) := dk_5 (dk_at dksJ15___kernel_tan_9 23 rfl rfl)
theorem dJ15___kernel_tan_235 : decode cJ15___kernel_tan 235 = .ok (.daload, 1) := dk_49 (dk_at dksJ15___kernel_tan_10 0 rfl rfl)
theorem dJ15___kernel_tan_236 : decode cJ15___kernel_tan 236 = .ok (.dload 11, 2) := dk_24 11 (dk_at dksJ15___kernel_tan_10 1 rfl rfl)
theorem dJ15___kernel_tan_238 : decode cJ15___kernel_tan 238 = .ok (.getstatic 51, 3) := dk_178 0 51 (dk_at dksJ15___kernel_tan_10 3 rfl rfl)
theorem dJ15___kernel_tan_241 : decode cJ15___kernel_tan 241 = .ok (.iconst 4, 1) := dk_7 (dk_at dksJ15___kernel_tan_10 6 rfl rfl)
theorem dJ15___kernel_tan_242 : decode cJ15___kernel_tan 242 = .ok (.daload, 1) := dk_49 (dk_at dksJ15___kernel_tan_10 7 rfl rfl)
theorem dJ15___kernel_tan_243 : decode cJ15___kernel_tan 243 = .ok (.dload 11, 2) := dk_24 11 (dk_at dksJ15___kernel_tan_10 8 rfl rfl)
theorem dJ15___kernel_tan_245 : decode cJ15___kernel_tan 245 = .ok (.getstatic 51, 3) := dk_178 0 51 (dk_at dksJ15___kernel_tan_10 10 rfl rfl)
theorem dJ15___kernel_tan_248 : decode cJ15___kernel_tan 248 = .ok (.bipush 6, 2) := dk_16 6 (dk_at dksJ15___kernel_tan_10 13 rfl rfl)
theorem dJ15___kernel_tan_250 : decode cJ15___kernel_tan 250 = .ok (.daload, 1) := dk_49 (dk_at dksJ15___kernel_tan_10 15 rfl rfl)
theorem dJ15___kernel_tan_251 : decode cJ15___kernel_tan 251 = .ok (.dload 11, 2) := dk_24 11 (dk_at dksJ15___kernel_tan_10 16 rfl rfl)
theorem dJ15___kernel_tan_253 : decode cJ15___kernel_tan 253 = .ok (.getstatic 51, 3) := dk_178 0 51 (dk_at dksJ15___kernel_tan_10 18 rfl rfl)
theorem dJ15___kernel_tan_256 : decode cJ15___kernel_tan 256 = .ok (.bipush 8, 2) := dk_16 8 (dk_at dksJ15___kernel_tan_10 21 rfl rfl)
theorem dJ15___kernel_tan_258 : decode cJ15___kernel_tan 258 = .ok (.daload, 1) := dk_49 (dk_at dksJ15___kernel_tan_10 23 rfl rfl)
theorem dJ15___kernel_tan_259 : decode cJ15___kernel_tan 259 = .ok (.dload 11, 2) := dk_24 11 (dk_at dksJ15___kernel_tan_11 0 rfl rfl)
theorem dJ15___kernel_tan_261 : decode cJ15___kernel_tan 261 = .ok (.getstatic 51, 3) := dk_178 0 51 (dk_at dksJ15___kernel_tan_11 2 rfl rfl)
theorem dJ15___kernel_tan_264 : decode cJ15___kernel_tan 264 = .ok (.bipush 10, 2) := dk_16 10 (dk_at dksJ15___kernel_tan_11 5 rfl rfl)
theorem dJ15___kernel_tan_266 : decode cJ15___kernel_tan 266 = .ok (.daload, 1) := dk_49 (dk_at dksJ15___kernel_tan_11 7 rfl rfl)
theorem dJ15___kernel_tan_267 : decode cJ15___kernel_tan 267 = .ok (.dload 11, 2) := dk_24 11 (dk_at dksJ15___kernel_tan_11 8 rfl rfl)
theorem dJ15___kernel_tan_269 : decode cJ15___kernel_tan 269 = .ok (.getstatic 51, 3) := dk_178 0 51 (dk_at dksJ15___kernel_tan_11 10 rfl rfl)
theorem dJ15___kernel_tan_272 : decode cJ15___kernel_tan 272 = .ok (.bipush 12, 2) := dk_16 12 (dk_at dksJ15___kernel_tan_11 13 rfl rfl)
theorem dJ15___kernel_tan_274 : decode cJ15___kernel_tan 274 = .ok (.daload, 1) := dk_49 (dk_at dksJ15___kernel_tan_11 15 rfl rfl)
theorem dJ15___kernel_tan_275 : decode cJ15___kernel_tan 275 = .ok (.dmul, 1) := dk_107 (dk_at dksJ15___kernel_tan_11 16 rfl rfl)
theorem dJ15___kernel_tan_276 : decode cJ15___kernel_tan 276 = .ok (.dadd, 1) := dk_99 (dk_at dksJ15___kernel_tan_11 17 rfl rfl)
theorem dJ15___kernel_tan_277 : decode cJ15___kernel_tan 277 = .ok (.dmul, 1) := dk_107 (dk_at dksJ15___kernel_tan_11 18 rfl rfl)
theorem dJ15___kernel_tan_278 : decode cJ15___kernel_tan 278 = .ok (.dadd, 1) := dk_99 (dk_at dksJ15___kernel_tan_11 19 rfl rfl)
theorem dJ15___kernel_tan_279 : decode cJ15___kernel_tan 279 = .ok (.dmul, 1) := dk_107 (dk_at dksJ15___kernel_tan_11 20 rfl rfl)
theorem dJ15___kernel_tan_280 : decode cJ15___kernel_tan 280 = .ok (.dadd, 1) := dk_99 (dk_at dksJ15___kernel_tan_11 21 rfl rfl)
theorem dJ15___kernel_tan_281 : decode cJ15___kernel_tan 281 = .ok (.dmul, 1) := dk_107 (dk_at dksJ15___kernel_tan_11 22 rfl rfl)
theorem dJ15___kernel_tan_282 : decode cJ15___kernel_tan 282 = .ok (.dadd, 1) := dk_99 (dk_at dksJ15___kernel_tan_11 23 rfl rfl)
theorem dJ15___kernel_tan_283 : decode cJ15___kernel_tan 283 = .ok (.dmul, 1) := dk_107 (dk_at dksJ15___kernel_tan_12 0 rfl rfl)
theorem dJ15___kernel_tan_284 : decode cJ15___kernel_tan 284 = .ok (.dadd, 1) := dk_99 (dk_at dksJ15___kernel_tan_12 1 rfl rfl)
theorem dJ15___kernel_tan_285 : decode cJ15___kernel_tan 285 = .ok (.dmul, 1) := dk_107 (dk_at dksJ15___kernel_tan_12 2 rfl rfl)
theorem dJ15___kernel_tan_286 : decode cJ15___kernel_tan 286 = .ok (.dstore 9, 2) := dk_57 9 (dk_at dksJ15___kernel_tan_12 3 rfl rfl)
theorem dJ15___kernel_tan_288 : decode cJ15___kernel_tan 288 = .ok (.dload 5, 2) := dk_24 5 (dk_at dksJ15___kernel_tan_12 5 rfl rfl)
theorem dJ15___kernel_tan_290 : decode cJ15___kernel_tan 290 = .ok (.dload_n 0, 1) := dk_38 (dk_at dksJ15___kernel_tan_12 7 rfl rfl)
theorem dJ15___kernel_tan_291 : decode cJ15___kernel_tan 291 = .ok (.dmul, 1) := dk_107 (dk_at dksJ15___kernel_tan_12 8 rfl rfl)
theorem dJ15___kernel_tan_292 : decode cJ15___kernel_tan 292 = .ok (.dstore 13, 2) := dk_57 13 (dk_at dksJ15___kernel_tan_12 9 rfl rfl)
theorem dJ15___kernel_tan_294 : decode cJ15___kernel_tan 294 = .ok (.dload_n 2, 1) := dk_40 (dk_at dksJ15___kernel_tan_12 11 rfl rfl)
theorem dJ15___kernel_tan_295 : decode cJ15___kernel_tan 295 = .ok (.dload 5, 2) := dk_24 5 (dk_at dksJ15___kernel_tan_12 12 rfl rfl)
theorem dJ15___kernel_tan_297 : decode cJ15___kernel_tan 297 = .ok (.dload 13, 2) := dk_24 13 (dk_at dksJ15___kernel_tan_12 14 rfl rfl)
theorem dJ15___kernel_tan_299 : decode cJ15___kernel_tan 299 = .ok (.dload 7, 2) := dk_24 7 (dk_at dksJ15___kernel_tan_12 16 rfl rfl)
theorem dJ15___kernel_tan_301 : decode cJ15___kernel_tan 301 = .ok (.dload 9, 2) := dk_24 9 (dk_at dksJ15___kernel_tan_12 18 rfl rfl)
theorem dJ15___kernel_tan_303 : decode cJ15___kernel_tan 303 = .ok (.dadd, 1) := dk_99 (dk_at dksJ15___kernel_tan_12 20 rfl rfl)
theorem dJ15___kernel_tan_304 : decode cJ15___kernel_tan 304 = .ok (.dmul, 1) := dk_107 (dk_at dksJ15___kernel_tan_12 21 rfl rfl)
theorem dJ15___kernel_tan_305 : decode cJ15___kernel_tan 305 = .ok (.dload_n 2, 1) := dk_40 (dk_at dksJ15___kernel_tan_12 22 rfl rfl)
theorem dJ15___kernel_tan_306 : decode cJ15___kernel_tan 306 = .ok (.dadd, 1) := dk_99 (dk_at dksJ15___kernel_tan_12 23 rfl rfl)
theorem dJ15___kernel_tan_307 : decode cJ15___kernel_tan 307 = .ok (.dmul, 1) := dk_107 (dk_at dksJ15___kernel_tan_13 0 rfl rfl)
theorem dJ15___kernel_tan_308 : decode cJ15___kernel_tan 308 = .ok (.dadd, 1) := dk_99 (dk_at dksJ15___kernel_tan_13 1 rfl rfl)
theorem dJ15___kernel_tan_309 : decode cJ15___kernel_tan 309 = .ok (.dstore 7, 2) := dk_57 7 (dk_at dksJ15___kernel_tan_13 2 rfl rfl)
theorem dJ15___kernel_tan_311 : decode cJ15___kernel_tan 311 = .ok (.dload 7, 2) := dk_24 7 (dk_at dksJ15___kernel_tan_13 4 rfl rfl)
theorem dJ15___kernel_tan_313 : decode cJ15___kernel_tan 313 = .ok (.getstatic 51, 3) := dk_178 0 51 (dk_at dksJ15___kernel_tan_13 6 rfl rfl)
theorem dJ15___kernel_tan_316 : decode cJ15___kernel_tan 316 = .ok (.iconst 0, 1) := dk_3 (dk_at dksJ15___kernel_tan_13 9 rfl rfl)
theorem dJ15___kernel_tan_317 : decode cJ15___kernel_tan 317 = .ok (.daload, 1) := dk_49 (dk_at dksJ15___kernel_tan_13 10 rfl rfl)
theorem dJ15___kernel_tan_318 : decode cJ15___kernel_tan 318 = .ok (.dload 13, 2) := dk_24 13 (dk_at dksJ15___kernel_tan_13 11 rfl rfl)
theorem dJ15___kernel_tan_320 : decode cJ15___kernel_tan 320 = .ok (.dmul, 1) := dk_107 (dk_at dksJ15___kernel_tan_13 13 rfl rfl)
theorem dJ15___kernel_tan_321 : decode cJ15___kernel_tan 321 = .ok (.dadd, 1) := dk_99 (dk_at dksJ15___kernel_tan_13 14 rfl rfl)
theorem dJ15___kernel_tan_322 : decode cJ15___kernel_tan 322 = .ok (.dstore 7, 2) := dk_57 7 (dk_at dksJ15___kernel_tan_13 15 rfl rfl)
theorem dJ15___kernel_tan_324 : decode cJ15___kernel_tan 324 = .ok (.dload_n 0, 1) := dk_38 (dk_at dksJ15___kernel_tan_13 17 rfl rfl)
theorem dJ15___kernel_tan_325 : decode cJ15___kernel_tan 325 = .ok (.dload 7, 2) := dk_24 7 (dk_at dksJ15___kernel_tan_13 18 rfl rfl)
theorem dJ15___kernel_tan_327 : decode cJ15___kernel_tan 327 = .ok (.dadd, 1) := dk_99 (dk_at dksJ15___kernel_tan_13 20 rfl rfl)
theorem dJ15___kernel_tan_328 : decode cJ15___kernel_tan 328 = .ok (.dstore 11, 2) := dk_57 11 (dk_at dksJ15___kernel_tan_13 21 rfl rfl)
theorem dJ15___kernel_tan_330 : decode cJ15___kernel_tan 330 = .ok (.iload 15, 2) := dk_21 15 (dk_at dksJ15___kernel_tan_14 0 rfl rfl)
theorem dJ15___kernel_tan_332 : decode cJ15___kernel_tan 332 = .ok (.ldc 46, 2) := dk_18 46 (dk_at dksJ15___kernel_tan_14 2 rfl rfl)
theorem dJ15___kernel_tan_334 : decode cJ15___kernel_tan 334 = .ok (.if_icmp .lt 43, 3) := dk_161 0 43 (dk_at dksJ15___kernel_tan_14 4 rfl rfl)
theorem dJ15___kernel_tan_337 : decode cJ15___kernel_tan 337 = .ok (.iload 4, 2) := dk_21 4 (dk_at dksJ15___kernel_tan_14 7 rfl rfl)
theorem dJ15___kernel_tan_339 : decode cJ15___kernel_tan 339 = .ok (.i2d, 1) := dk_135 (dk_at dksJ15___kernel_tan_14 9 rfl rfl)
theorem dJ15___kernel_tan_340 : decode cJ15___kernel_tan 340 = .ok (.dstore 9, 2) := dk_57 9 (dk_at dksJ15___kernel_tan_14 10 rfl rfl)
theorem dJ15___kernel_tan_342 : decode cJ15___kernel_tan 342 = .ok (.iconst 1, 1) := dk_4 (dk_at dksJ15___kernel_tan_14 12 rfl rfl)
theorem dJ15___kernel_tan_343 : decode cJ15___kernel_tan 343 = .ok (.iload 16, 2) := dk_21 16 (dk_at dksJ15___kernel_tan_14 13 rfl rfl)
theorem dJ15___kernel_tan_345 : decode cJ15___kernel_tan 345 = .ok (.bipush 30, 2) := dk_16 30 (dk_at dksJ15___kernel_tan_14 15 rfl rfl)
theorem dJ15___kernel_tan_347 : decode cJ15___kernel_tan 347 = .ok (.ishr, 1) := dk_122 (dk_at dksJ15___kernel_tan_14 17 rfl rfl)
theorem dJ15___kernel_tan_348 : decode cJ15___kernel_tan 348 = .ok (.iconst 2, 1) := dk_5 (dk_at dksJ15___kernel_tan_14 18 rfl rfl)
theorem dJ15___kernel_tan_349 : decode cJ15___kernel_tan 349 = .ok (.iand, 1) := dk_126 (dk_at dksJ15___kernel_tan_14 19 rfl rfl)
theorem dJ15___kernel_tan_350 : decode cJ15___kernel_tan 350 = .ok (.isub, 1) := dk_100 (dk_at dksJ15___kernel_tan_14 20 rfl rfl)
theorem dJ15___kernel_tan_351 : decode cJ15___kernel_tan 351 = .ok (.i2d, 1) := dk_135 (dk_at dksJ15___kernel_tan_14 21 rfl rfl)
theorem dJ15___kernel_tan_352 : decode cJ15___kernel_tan 352 = .ok (.dload 9, 2) := dk_24 9 (dk_at dksJ15___kernel_tan_14 22 rfl rfl)
theorem dJ15___kernel_tan_354 : decode cJ15___kernel_tan 354 = .ok (.ldc2_w 55, 3) := dk_20 0 55 (dk_at dksJ15___kernel_tan_15 0 rfl rfl)
theorem dJ15___kernel_tan_357 : decode cJ15___kernel_tan 357 = .ok (.dload_n 0, 1) := dk_38 (dk_at dksJ15___kernel_tan_15 3 rfl rfl)
theorem dJ15___kernel_tan_358 : decode cJ15___kernel_tan 358 = .ok (.dload 11, 2) := dk_24 11 (dk_at dksJ15___kernel_tan_15 4 rfl rfl)
theorem dJ15___kernel_tan_360 : decode cJ15___kernel_tan 360 = .ok (.dload 11, 2) := dk_24 11 (dk_at dksJ15___kernel_tan_15 6 rfl rfl)
theorem dJ15___kernel_tan_362 : decode cJ15___kernel_tan 362 = .ok (.dmul, 1) := dk_107 (dk_at dksJ15___kernel_tan_15 8 rfl rfl)
theorem dJ15___kernel_tan_363 : decode cJ15___kernel_tan 363 = .ok (.dload 11, 2) := dk_24 11 (dk_at dksJ15___kernel_tan_15 9 rfl rfl)
theorem dJ15___kernel_tan_365 : decode cJ15___kernel_tan 365 = .ok (.dload 9, 2) := dk_24 9 (dk_at dksJ15___kernel_tan_15 11 rfl rfl)
theorem dJ15___kernel_tan_367 : decode cJ15___kernel_tan 367 = .ok (.dadd, 1) := dk_99 (dk_at dksJ15___kernel_tan_15 13 rfl rfl)
theorem dJ15___kernel_tan_368 : decode cJ15___kernel_tan 368 = .ok (.ddiv, 1) := dk_111 (dk_at dksJ15___kernel_tan_15 14 rfl rfl)
theorem dJ15___kernel_tan_369 : decode cJ15___kernel_tan 369 = .ok (.dload 7, 2) := dk_24 7 (dk_at dksJ15___kernel_tan_15 15 rfl rfl)
theorem dJ15___kernel_tan_371 : decode cJ15___kernel_tan 371 = .ok (.dsub, 1) := dk_103 (dk_at dksJ15___kernel_tan_15 17 rfl rfl)
theorem dJ15___kernel_tan_372 : decode cJ15___kernel_tan 372 = .ok (.dsub, 1) := dk_103 (dk_at dksJ15___kernel_tan_15 18 rfl rfl)
theorem dJ15___kernel_tan_373 : decode cJ15___kernel_tan 373 = .ok (.dmul, 1) := dk_107 (dk_at dksJ15___kernel_tan_15 19 rfl rfl)
theorem dJ15___kernel_tan_374 : decode cJ15___kernel_tan 374 = .ok (.dsub, 1) := dk_103 (dk_at dksJ15___kernel_tan_15 20 rfl rfl)
theorem dJ15___kernel_tan_375 : decode cJ15___kernel_tan 375 = .ok (.dmul, 1) := dk_107 (dk_at dksJ15___kernel_tan_15 21 rfl rfl)
theorem dJ15___kernel_tan_376 : decode cJ15___kernel_tan 376 = .ok (.dreturn, 1) := dk_175 (dk_at dksJ15___kernel_tan_15 22 rfl rfl)
theorem dJ15___kernel_tan_377 : decode cJ15___kernel_tan 377 = .ok (.iload 4, 2) := dk_21 4 (dk_at dksJ15___kernel_tan_16 0 rfl rfl)
theorem dJ15___kernel_tan_379 : decode cJ15___kernel_tan 379 = .ok (.iconst 1, 1) := dk_4 (dk_at dksJ15___kernel_tan_16 2 rfl rfl)
theorem dJ15___kernel_tan_380 : decode cJ15___kernel_tan 380 = .ok (.if_icmp .ne 6, 3) := dk_160 0 6 (dk_at dksJ15___kernel_tan_16 3 rfl rfl)
theorem dJ15___kernel_tan_383 : decode cJ15___kernel_tan 383 = .ok (.dload 11, 2) := dk_24 11 (dk_at dksJ15___kernel_tan_16 6 rfl rfl)
theorem dJ15___kernel_tan_385 : decode cJ15___kernel_tan 385 = .ok (.dreturn, 1) := dk_175 (dk_at dksJ15___kernel_tan_16 8 rfl rfl)
theorem dJ15___kernel_tan_386 : decode cJ15___kernel_tan 386 = .ok (.dload 11, 2) := dk_24 11 (dk_at dksJ15___kernel_tan_16 9 rfl rfl)
theorem dJ15___kernel_tan_388 : decode cJ15___kernel_tan 388 = .ok (.dstore 5, 2) := dk_57 5 (dk_at dksJ15___kernel_tan_16 11 rfl rfl)
theorem dJ15___kernel_tan_390 : decode cJ15___kernel_tan 390 = .ok (.dload 5, 2) := dk_24 5 (dk_at dksJ15___kernel_tan_16 13 rfl rfl)
theorem dJ15___kernel_tan_392 : decode cJ15___kernel_tan 392 = .ok (.iconst 0, 1) := dk_3 (dk_at dksJ15___kernel_tan_16 15 rfl rfl)
theorem dJ15___kernel_tan_393 : decode cJ15___kernel_tan 393 = .ok (.invokestatic 41, 3) := dk_184 0 41 (dk_at dksJ15___kernel_tan_16 16 rfl rfl)
theorem dJ15___kernel_tan_396 : decode cJ15___kernel_tan 396 = .ok (.dstore 5, 2) := dk_57 5 (dk_at dksJ15___kernel_tan_16 19 rfl rfl)
theorem dJ15___kernel_tan_398 : decode cJ15___kernel_tan 398 = .ok (.dload 7, 2) := dk_24 7 (dk_at dksJ15___kernel_tan_16 21 rfl rfl)
theorem dJ15___kernel_tan_400 : decode cJ15___kernel_tan 400 = .ok (.dload 5, 2) := dk_24 5 (dk_at dksJ15___kernel_tan_17 0 rfl rfl)
theorem dJ15___kernel_tan_402 : decode cJ15___kernel_tan 402 = .ok (.dload_n 0, 1) := dk_38 (dk_at dksJ15___kernel_tan_17 2 rfl rfl)
theorem dJ15___kernel_tan_403 : decode cJ15___kernel_tan 403 = .ok (.dsub, 1) := dk_103 (dk_at dksJ15___kernel_tan_17 3 rfl rfl)
theorem dJ15___kernel_tan_404 : decode cJ15___kernel_tan 404 = .ok (.dsub, 1) := dk_103 (dk_at dksJ15___kernel_tan_17 4 rfl rfl)
theorem dJ15___kernel_tan_405 : decode cJ15___kernel_tan 405 = .ok (.dstore 9, 2) := dk_57 9 (dk_at dksJ15___kernel_tan_17 5 rfl rfl)
theorem dJ15___kernel_tan_407 : decode cJ15___kernel_tan 407 = .ok (.ldc2_w 44, 3) := dk_20 0 44 (dk_at dksJ15___kernel_tan_17 7 rfl rfl)
theorem dJ15___kernel_tan_410 : decode cJ15___kernel_tan 410 = .ok (.dload 11, 2) := dk_24 11 (dk_at dksJ15___kernel_tan_17 10 rfl rfl)
theorem dJ15___kernel_tan_412 : decode cJ15___kernel_tan 412 = .ok (.ddiv, 1) := dk_111 (dk_at dksJ15___kernel_tan_17 12 rfl rfl)
theorem dJ15___kernel_tan_413 : decode cJ15___kernel_tan 413 = .ok (.dup2, 1) := dk_92 (dk_at dksJ15___kernel_tan_17 13 rfl rfl)
theorem dJ15___kernel_tan_414 : decode cJ15___kernel_tan 414 = .ok (.dstore 17, 2) := dk_57 17 (dk_at dksJ15___kernel_tan_17 14 rfl rfl)
theorem dJ15___kernel_tan_416 : decode cJ15___kernel_tan 416 = .ok (.dstore 19, 2) := dk_57 19 (dk_at dksJ15___kernel_tan_17 16 rfl rfl)
theorem dJ15___kernel_tan_418 : decode cJ15___kernel_tan 418 = .ok (.dload 19, 2) := dk_24 19 (dk_at dksJ15___kernel_tan_17 18 rfl rfl)
theorem dJ15___kernel_tan_420 : decode cJ15___kernel_tan 420 = .ok (.iconst 0, 1) := dk_3 (dk_at dksJ15___kernel_tan_17 20 rfl rfl)
theorem dJ15___kernel_tan_421 : decode cJ15___kernel_tan 421 = .ok (.invokestatic 41, 3) := dk_184 0 41 (dk_at dksJ15___kernel_tan_17 21 rfl rfl)
theorem dJ15___kernel_tan_424 : decode cJ15___kernel_tan 424 = .ok (.dstore 19, 2) := dk_57 19 (dk_at dksJ15___kernel_tan_18 0 rfl rfl)
theorem dJ15___kernel_tan_426 : decode cJ15___kernel_tan 426 = .ok (.dconst 1, 1) := dk_15 (dk_at dksJ15___kernel_tan_18 2 rfl rfl)
theorem dJ15___kernel_tan_427 : decode cJ15___kernel_tan 427 = .ok (.dload 19, 2) := dk_24 19 (dk_at dksJ15___kernel_tan_18 3 rfl rfl)
theorem dJ15___kernel_tan_429 : decode cJ15___kernel_tan 429 = .ok (.dload 5, 2) := dk_24 5 (dk_at dksJ15___kernel_tan_18 5 rfl rfl)
theorem dJ15___kernel_tan_431 : decode cJ15___kernel_tan 431 = .ok (.dmul, 1) := dk_107 (dk_at dksJ15___kernel_tan_18 7 rfl rfl)
theorem dJ15___kernel_tan_432 : decode cJ15___kernel_tan 432 = .ok (.dadd, 1) := dk_99 (dk_at dksJ15___kernel_tan_18 8 rfl rfl)
theorem dJ15___kernel_tan_433 : decode cJ15___kernel_tan 433 = .ok (.dstore 13, 2) := dk_57 13 (dk_at dksJ15___kernel_tan_18 9 rfl rfl)
theorem dJ15___kernel_tan_435 : decode cJ15___kernel_tan 435 = .ok (.dload 19, 2) := dk_24 19 (dk_at dksJ15___kernel_tan_18 11 rfl rfl)
theorem dJ15___kernel_tan_437 : decode cJ15___kernel_tan 437 = .ok (.dload 17, 2) := dk_24 17 (dk_at dksJ15___kernel_tan_18 13 rfl rfl)
theorem dJ15___kernel_tan_439 : decode cJ15___kernel_tan 439 = .ok (.dload 13, 2) := dk_24 13 (dk_at dksJ15___kernel_tan_18 15 rfl rfl)
theorem dJ15___kernel_tan_441 : decode cJ15___kernel_tan 441 = .ok (.dload 19, 2) := dk_24 19 (dk_at dksJ15___kernel_tan_18 17 rfl rfl)
theorem dJ15___kernel_tan_443 : decode cJ15___kernel_tan 443 = .ok (.dload 9, 2) := dk_24 9 (dk_at dksJ15___kernel_tan_18 19 rfl rfl)
theorem dJ15___kernel_tan_445 : decode cJ15___kernel_tan 445 = .ok (.dmul, 1) := dk_107 (dk_at dksJ15___kernel_tan_18 21 rfl rfl)
theorem dJ15___kernel_tan_446 : decode cJ15___kernel_tan 446 = .ok (.dadd, 1) := dk_99 (dk_at dksJ15___kernel_tan_18 22 rfl rfl)
theorem dJ15___kernel_tan_447 : decode cJ15___kernel_tan 447 = .ok (.dmul, 1) := dk_107 (dk_at dksJ15___kernel_tan_18 23 rfl rfl)
theorem dJ15___kernel_tan_448 : decode cJ15___kernel_tan 448 = .ok (.dadd, 1) := dk_99 (dk_at dksJ15___kernel_tan_19 0 rfl rfl)
theorem dJ15___kernel_tan_449 : decode cJ15___kernel_tan 449 = .ok (.dreturn, 1) := dk_175 (dk_at dksJ15___kernel_tan_19 1 rfl rfl)
theorem q56 : (Jvm.Cond.initialized "java/lang/FdLibm$Tan") ∈ lw_all := lw_g (lw_at lw_m1 17 rfl) rfl
theorem q333 : (Jvm.Cond.static ({ cls := "java/lang/FdLibm$Tan", name := "compute", desc := "(D)D" } : Jvm.MethodName)) ∈ lw_all := lw_g (lw_at lw_m2 54 rfl) rfl
theorem q334 : (Jvm.Cond.code ({ cls := "java/lang/FdLibm$Tan", name := "compute", desc := "(D)D" } : Jvm.MethodName) prog_16_method_2_code (7 : Nat) (Option.some Jvm.ClassFile.FieldType.double)) ∈ lw_all := lw_g (lw_at lw_m2 55 rfl) rfl
theorem q335 : (Jvm.Cond.methodLinkNest "java/lang/FdLibm$Tan" (12 : Nat) ({ cls := "java/lang/FdLibm", name := "__HI", desc := "(D)I" } : Jvm.MethodName) "java/lang/FdLibm") ∈ lw_tbl := lw_at lw_m2 56 rfl
theorem q336 : (Jvm.Cond.constant "java/lang/FdLibm$Tan" (16 : Nat) (2147483647 : Int32)) ∈ lw_all := lw_g (lw_at lw_m2 57 rfl) rfl
theorem q337 : (Jvm.Cond.constant "java/lang/FdLibm$Tan" (17 : Nat) (1072243195 : Int32)) ∈ lw_all := lw_g (lw_at lw_m2 58 rfl) rfl
theorem q338 : (Jvm.Cond.methodLink "java/lang/FdLibm$Tan" (18 : Nat) ({ cls := "java/lang/FdLibm$Tan", name := "__kernel_tan", desc := "(DDI)D" } : Jvm.MethodName)) ∈ lw_all := lw_g (lw_at lw_m2 59 rfl) rfl
theorem q339 : (Jvm.Cond.static ({ cls := "java/lang/FdLibm$Tan", name := "__kernel_tan", desc := "(DDI)D" } : Jvm.MethodName)) ∈ lw_all := lw_g (lw_at lw_m2 60 rfl) rfl
theorem q340 : (Jvm.Cond.code ({ cls := "java/lang/FdLibm$Tan", name := "__kernel_tan", desc := "(DDI)D" } : Jvm.MethodName) prog_16_method_3_code (21 : Nat) (Option.some Jvm.ClassFile.FieldType.double)) ∈ lw_all := lw_g (lw_at lw_m2 61 rfl) rfl
theorem q341 : (Jvm.Cond.constant "java/lang/FdLibm$Tan" (31 : Nat) (1043333120 : Int32)) ∈ lw_all := lw_g (lw_at lw_m2 62 rfl) rfl
theorem q342 : (Jvm.Cond.methodLinkNest "java/lang/FdLibm$Tan" (32 : Nat) ({ cls := "java/lang/FdLibm", name := "__LO", desc := "(D)I" } : Jvm.MethodName) "java/lang/FdLibm") ∈ lw_tbl := lw_at lw_m2 63 rfl
theorem q343 : (Jvm.Cond.methodLink "java/lang/FdLibm$Tan" (35 : Nat) ({ cls := "java/lang/Math", name := "abs", desc := "(D)D" } : Jvm.MethodName)) ∈ lw_all := lw_g (lw_at lw_m2 64 rfl) rfl
theorem q344 : (Jvm.Cond.methodLinkNest "java/lang/FdLibm$Tan" (41 : Nat) ({ cls := "java/lang/FdLibm", name := "__LO", desc := "(DI)D" } : Jvm.MethodName) "java/lang/FdLibm") ∈ lw_tbl := lw_at lw_m2 65 rfl
theorem q345 : (Jvm.Cond.constantDouble "java/lang/FdLibm$Tan" (44 : Nat) (13830554455654793216 : UInt64)) ∈ lw_all := lw_g (lw_at lw_m2 66 rfl) rfl
theorem q346 : (Jvm.Cond.constant "java/lang/FdLibm$Tan" (46 : Nat) (1072010280 : Int32)) ∈ lw_all := lw_g (lw_at lw_m2 67 rfl) rfl
theorem q347 : (Jvm.Cond.constantDouble "java/lang/FdLibm$Tan" (47 : Nat) (4605249457297304856 : UInt64)) ∈ lw_all := lw_g (lw_at lw_m2 68 rfl) rfl
theorem q348 : (Jvm.Cond.constantDouble "java/lang/FdLibm$Tan" (49 : Nat) (4359948597267291143 : UInt64)) ∈ lw_all := lw_g (lw_at lw_m2 69 rfl) rfl
theorem q349 : (Jvm.Cond.fieldLink "java/lang/FdLibm$Tan" (51 : Nat) "java/lang/FdLibm$Tan" "T" "[D") ∈ lw_all := lw_g (lw_at lw_m2 70 rfl) rfl
theorem q350 : (Jvm.Cond.laysStatic "java/lang/FdLibm$Tan" "T" "[D") ∈ lw_tbl := lw_at lw_m2 71 rfl
theorem q351 : (Jvm.Cond.constantDouble "java/lang/FdLibm$Tan" (55 : Nat) (4611686018427387904 : UInt64)) ∈ lw_all := lw_g (lw_at lw_m2 72 rfl) rfl
theorem q352 : (Jvm.Cond.constant "java/lang/FdLibm$Tan" (24 : Nat) (2146435072 : Int32)) ∈ lw_all := lw_g (lw_at lw_m2 73 rfl) rfl
theorem q353 : (Jvm.Cond.methodLink "java/lang/FdLibm$Tan" (25 : Nat) ({ cls := "java/lang/FdLibm$RemPio2", name := "__ieee754_rem_pio2", desc := "(D[D)I" } : Jvm.MethodName)) ∈ lw_all := lw_g (lw_at lw_m2 74 rfl) rfl
/-! java/util/Objects -/
set_option maxRecDepth 100000
def RJ17 : String := "java/util/Objects"
abbrev cJ17_checkFromToIndex : ByteArray := prog_36_method_18_code
def yJ17_checkFromToIndex : MethodName := ⟨RJ17, "checkFromToIndex", "(III)I"⟩
def dkwJ17_checkFromToIndex_0 : List UInt8 := [26, 27, 28, 1, 184, 0, 111, 172]
abbrev dktJ17_checkFromToIndex_0 : List UInt8 := dkwJ17_checkFromToIndex_0 ++ []
theorem dksJ17_checkFromToIndex_0 : cJ17_checkFromToIndex.data.toList.drop 0 = dktJ17_checkFromToIndex_0 := by decide +kernel
theorem dJ17_checkFromToIndex_0 : decode cJ17_checkFromToIndex 0 = .ok (.iload_n 0, 1) := dk_26 (dk_at dksJ17_checkFromToIndex_0 0 rfl rfl)
theorem dJ17_checkFromToIndex_1 : decode cJ17_checkFromToIndex 1 = .ok (.iload_n 1, 1) := dk_27 (dk_at dksJ17_checkFromToIndex_0 1 rfl rfl)
theorem dJ17_checkFromToIndex_2 : decode cJ17_checkFromToIndex 2 = .ok (.iload_n 2, 1) := dk_28 (dk_at dksJ17_checkFromToIndex_0 2 rfl rfl)
theorem dJ17_checkFromToIndex_3 : decode cJ17_checkFromToIndex 3 = .ok (.aconst_null, 1) := dk_1 (dk_at dksJ17_checkFromToIndex_0 3 rfl rfl)
theorem dJ17_checkFromToIndex_4 : decode cJ17_checkFromToIndex 4 = .ok (.invokestatic 111, 3) := dk_184 0 111 (dk_at dksJ17_checkFromToIndex_0 4 rfl rfl)
theorem dJ17_checkFromToIndex_7 : decode cJ17_checkFromToIndex 7 = .ok (.ireturn, 1) := dk_172 (dk_at dksJ17_checkFromToIndex_0 7 rfl rfl)
abbrev cJ17_requireNonNull : ByteArray := prog_36_method_10_code
def yJ17_requireNonNull : MethodName := ⟨RJ17, "requireNonNull", "(Ljava/lang/Object;)Ljava/lang/Object;"⟩
def dkwJ17_requireNonNull_0 : List UInt8 := [42, 199, 0, 11, 187, 0, 84, 89, 183, 0, 86, 191, 42, 176]
abbrev dktJ17_requireNonNull_0 : List UInt8 := dkwJ17_requireNonNull_0 ++ []
theorem dksJ17_requireNonNull_0 : cJ17_requireNonNull.data.toList.drop 0 = dktJ17_requireNonNull_0 := by decide +kernel
theorem dJ17_requireNonNull_0 : decode cJ17_requireNonNull 0 = .ok (.aload_n 0, 1) := dk_42 (dk_at dksJ17_requireNonNull_0 0 rfl rfl)
theorem dJ17_requireNonNull_1 : decode cJ17_requireNonNull 1 = .ok (.ifnonnull 11, 3) := dk_199 0 11 (dk_at dksJ17_requireNonNull_0 1 rfl rfl)
theorem dJ17_requireNonNull_4 : decode cJ17_requireNonNull 4 = .ok (.new 84, 3) := dk_187 0 84 (dk_at dksJ17_requireNonNull_0 4 rfl rfl)
theorem dJ17_requireNonNull_7 : decode cJ17_requireNonNull 7 = .ok (.dup, 1) := dk_89 (dk_at dksJ17_requireNonNull_0 7 rfl rfl)
theorem dJ17_requireNonNull_8 : decode cJ17_requireNonNull 8 = .ok (.invokespecial 86, 3) := dk_183 0 86 (dk_at dksJ17_requireNonNull_0 8 rfl rfl)
theorem dJ17_requireNonNull_11 : decode cJ17_requireNonNull 11 = .ok (.athrow, 1) := dk_191 (dk_at dksJ17_requireNonNull_0 11 rfl rfl)
theorem dJ17_requireNonNull_12 : decode cJ17_requireNonNull 12 = .ok (.aload_n 0, 1) := dk_42 (dk_at dksJ17_requireNonNull_0 12 rfl rfl)
theorem dJ17_requireNonNull_13 : decode cJ17_requireNonNull 13 = .ok (.areturn, 1) := dk_176 (dk_at dksJ17_requireNonNull_0 13 rfl rfl)
abbrev cJ17_equals : ByteArray := prog_36_method_2_code
def yJ17_equals : MethodName := ⟨RJ17, "equals", "(Ljava/lang/Object;Ljava/lang/Object;)Z"⟩
def dkwJ17_equals_0 : List UInt8 := [42, 43, 165, 0, 15, 42, 198, 0, 15, 42, 43, 182, 0, 14, 153, 0, 7, 4, 167, 0, 4, 3, 172]
abbrev dktJ17_equals_0 : List UInt8 := dkwJ17_equals_0 ++ []
theorem dksJ17_equals_0 : cJ17_equals.data.toList.drop 0 = dktJ17_equals_0 := by decide +kernel
theorem dJ17_equals_0 : decode cJ17_equals 0 = .ok (.aload_n 0, 1) := dk_42 (dk_at dksJ17_equals_0 0 rfl rfl)
theorem dJ17_equals_1 : decode cJ17_equals 1 = .ok (.aload_n 1, 1) := dk_43 (dk_at dksJ17_equals_0 1 rfl rfl)
theorem dJ17_equals_2 : decode cJ17_equals 2 = .ok (.if_acmp .eq 15, 3) := dk_165 0 15 (dk_at dksJ17_equals_0 2 rfl rfl)
theorem dJ17_equals_5 : decode cJ17_equals 5 = .ok (.aload_n 0, 1) := dk_42 (dk_at dksJ17_equals_0 5 rfl rfl)
theorem dJ17_equals_6 : decode cJ17_equals 6 = .ok (.ifnull 15, 3) := dk_198 0 15 (dk_at dksJ17_equals_0 6 rfl rfl)
theorem dJ17_equals_9 : decode cJ17_equals 9 = .ok (.aload_n 0, 1) := dk_42 (dk_at dksJ17_equals_0 9 rfl rfl)
theorem dJ17_equals_10 : decode cJ17_equals 10 = .ok (.aload_n 1, 1) := dk_43 (dk_at dksJ17_equals_0 10 rfl rfl)
theorem dJ17_equals_11 : decode cJ17_equals 11 = .ok (.invokevirtual 14, 3) := dk_182 0 14 (dk_at dksJ17_equals_0 11 rfl rfl)
theorem dJ17_equals_14 : decode cJ17_equals 14 = .ok (.ifCond .eq 7, 3) := dk_153 0 7 (dk_at dksJ17_equals_0 14 rfl rfl)
theorem dJ17_equals_17 : decode cJ17_equals 17 = .ok (.iconst 1, 1) := dk_4 (dk_at dksJ17_equals_0 17 rfl rfl)
theorem dJ17_equals_18 : decode cJ17_equals 18 = .ok (.goto 4, 3) := dk_167 0 4 (dk_at dksJ17_equals_0 18 rfl rfl)
theorem dJ17_equals_21 : decode cJ17_equals 21 = .ok (.iconst 0, 1) := dk_3 (dk_at dksJ17_equals_0 21 rfl rfl)
theorem dJ17_equals_22 : decode cJ17_equals 22 = .ok (.ireturn, 1) := dk_172 (dk_at dksJ17_equals_0 22 rfl rfl)
theorem q59 : (Jvm.Cond.initialized "java/util/Objects") ∈ lw_all := lw_g (lw_at lw_m1 20 rfl) rfl
theorem q465 : (Jvm.Cond.static ({ cls := "java/util/Objects", name := "checkFromToIndex", desc := "(III)I" } : Jvm.MethodName)) ∈ lw_all := lw_g (lw_at lw_m2 186 rfl) rfl
theorem q466 : (Jvm.Cond.code ({ cls := "java/util/Objects", name := "checkFromToIndex", desc := "(III)I" } : Jvm.MethodName) prog_36_method_18_code (3 : Nat) (Option.some Jvm.ClassFile.FieldType.int)) ∈ lw_all := lw_g (lw_at lw_m2 187 rfl) rfl
theorem q467 : (Jvm.Cond.methodLink "java/util/Objects" (111 : Nat) ({ cls := "jdk/internal/util/Preconditions", name := "checkFromToIndex", desc := "(IIILjava/util/function/BiFunction;)I" } : Jvm.MethodName)) ∈ lw_all := lw_g (lw_at lw_m2 188 rfl) rfl
theorem q867 : (Jvm.Cond.static ({ cls := "java/util/Objects", name := "requireNonNull", desc := "(Ljava/lang/Object;)Ljava/lang/Object;" } : Jvm.MethodName)) ∈ lw_all := lw_g (lw_at lw_m4 108 rfl) rfl
theorem q868 : (Jvm.Cond.code ({ cls := "java/util/Objects", name := "requireNonNull", desc := "(Ljava/lang/Object;)Ljava/lang/Object;" } : Jvm.MethodName) prog_36_method_10_code (1 : Nat) (Option.some (Jvm.ClassFile.FieldType.object "java/lang/Object"))) ∈ lw_all := lw_g (lw_at lw_m4 109 rfl) rfl
theorem q1455 : (Jvm.Cond.static ({ cls := "java/util/Objects", name := "equals", desc := "(Ljava/lang/Object;Ljava/lang/Object;)Z" } : Jvm.MethodName)) ∈ lw_all := lw_g (lw_at lw_m6 216 rfl) rfl
theorem q1456 : (Jvm.Cond.code ({ cls := "java/util/Objects", name := "equals", desc := "(Ljava/lang/Object;Ljava/lang/Object;)Z" } : Jvm.MethodName) prog_36_method_2_code (2 : Nat) (Option.some Jvm.ClassFile.FieldType.boolean)) ∈ lw_all := lw_g (lw_at lw_m6 217 rfl) rfl
theorem q1458 : (Jvm.Cond.methodLink "java/util/Objects" (14 : Nat) ({ cls := "java/lang/Object", name := "equals", desc := "(Ljava/lang/Object;)Z" } : Jvm.MethodName)) ∈ lw_all := lw_g (lw_at lw_m6 219 rfl) rfl
/-! jdk/internal/util/Preconditions -/
set_option maxRecDepth 100000
def RJ18 : String := "jdk/internal/util/Preconditions"
abbrev cJ18_checkFromToIndex : ByteArray := prog_39_method_12_code
def yJ18_checkFromToIndex : MethodName := ⟨RJ18, "checkFromToIndex", "(IIILjava/util/function/BiFunction;)I"⟩
def dkwJ18_checkFromToIndex_0 : List UInt8 := [26, 155, 0, 13, 26, 27, 163, 0, 8, 27, 28, 164, 0, 11, 45, 26, 27, 28, 184, 0, 99, 191, 26, 172]
abbrev dktJ18_checkFromToIndex_0 : List UInt8 := dkwJ18_checkFromToIndex_0 ++ []
theorem dksJ18_checkFromToIndex_0 : cJ18_checkFromToIndex.data.toList.drop 0 = dktJ18_checkFromToIndex_0 := by decide +kernel
theorem dJ18_checkFromToIndex_0 : decode cJ18_checkFromToIndex 0 = .ok (.iload_n 0, 1) := dk_26 (dk_at dksJ18_checkFromToIndex_0 0 rfl rfl)
theorem dJ18_checkFromToIndex_1 : decode cJ18_checkFromToIndex 1 = .ok (.ifCond .lt 13, 3) := dk_155 0 13 (dk_at dksJ18_checkFromToIndex_0 1 rfl rfl)
theorem dJ18_checkFromToIndex_4 : decode cJ18_checkFromToIndex 4 = .ok (.iload_n 0, 1) := dk_26 (dk_at dksJ18_checkFromToIndex_0 4 rfl rfl)
theorem dJ18_checkFromToIndex_5 : decode cJ18_checkFromToIndex 5 = .ok (.iload_n 1, 1) := dk_27 (dk_at dksJ18_checkFromToIndex_0 5 rfl rfl)
theorem dJ18_checkFromToIndex_6 : decode cJ18_checkFromToIndex 6 = .ok (.if_icmp .gt 8, 3) := dk_163 0 8 (dk_at dksJ18_checkFromToIndex_0 6 rfl rfl)
theorem dJ18_checkFromToIndex_9 : decode cJ18_checkFromToIndex 9 = .ok (.iload_n 1, 1) := dk_27 (dk_at dksJ18_checkFromToIndex_0 9 rfl rfl)
theorem dJ18_checkFromToIndex_10 : decode cJ18_checkFromToIndex 10 = .ok (.iload_n 2, 1) := dk_28 (dk_at dksJ18_checkFromToIndex_0 10 rfl rfl)
theorem dJ18_checkFromToIndex_11 : decode cJ18_checkFromToIndex 11 = .ok (.if_icmp .le 11, 3) := dk_164 0 11 (dk_at dksJ18_checkFromToIndex_0 11 rfl rfl)
theorem dJ18_checkFromToIndex_14 : decode cJ18_checkFromToIndex 14 = .ok (.aload_n 3, 1) := dk_45 (dk_at dksJ18_checkFromToIndex_0 14 rfl rfl)
theorem dJ18_checkFromToIndex_15 : decode cJ18_checkFromToIndex 15 = .ok (.iload_n 0, 1) := dk_26 (dk_at dksJ18_checkFromToIndex_0 15 rfl rfl)
theorem dJ18_checkFromToIndex_16 : decode cJ18_checkFromToIndex 16 = .ok (.iload_n 1, 1) := dk_27 (dk_at dksJ18_checkFromToIndex_0 16 rfl rfl)
theorem dJ18_checkFromToIndex_17 : decode cJ18_checkFromToIndex 17 = .ok (.iload_n 2, 1) := dk_28 (dk_at dksJ18_checkFromToIndex_0 17 rfl rfl)
theorem dJ18_checkFromToIndex_18 : decode cJ18_checkFromToIndex 18 = .ok (.invokestatic 99, 3) := dk_184 0 99 (dk_at dksJ18_checkFromToIndex_0 18 rfl rfl)
theorem dJ18_checkFromToIndex_21 : decode cJ18_checkFromToIndex 21 = .ok (.athrow, 1) := dk_191 (dk_at dksJ18_checkFromToIndex_0 21 rfl rfl)
theorem dJ18_checkFromToIndex_22 : decode cJ18_checkFromToIndex 22 = .ok (.iload_n 0, 1) := dk_26 (dk_at dksJ18_checkFromToIndex_0 22 rfl rfl)
theorem dJ18_checkFromToIndex_23 : decode cJ18_checkFromToIndex 23 = .ok (.ireturn, 1) := dk_172 (dk_at dksJ18_checkFromToIndex_0 23 rfl rfl)
abbrev cJ18_checkFromIndexSize : ByteArray := prog_39_method_13_code
def yJ18_checkFromIndexSize : MethodName := ⟨RJ18, "checkFromIndexSize", "(IIILjava/util/function/BiFunction;)I"⟩
def dkwJ18_checkFromIndexSize_1 : List UInt8 := [172]
abbrev dktJ18_checkFromIndexSize_1 : List UInt8 := dkwJ18_checkFromIndexSize_1 ++ []
def dkwJ18_checkFromIndexSize_0 : List UInt8 := [28, 26, 128, 27, 128, 155, 0, 10, 27, 28, 26, 100, 164, 0, 11, 45, 26, 27, 28, 184, 0, 103, 191, 26]
abbrev dktJ18_checkFromIndexSize_0 : List UInt8 := dkwJ18_checkFromIndexSize_0 ++ dktJ18_checkFromIndexSize_1
theorem dksJ18_checkFromIndexSize_0 : cJ18_checkFromIndexSize.data.toList.drop 0 = dktJ18_checkFromIndexSize_0 := by decide +kernel
theorem dksJ18_checkFromIndexSize_1 : cJ18_checkFromIndexSize.data.toList.drop 24 = dktJ18_checkFromIndexSize_1 := dk_seg dksJ18_checkFromIndexSize_0 24 rfl rfl
theorem dJ18_checkFromIndexSize_0 : decode cJ18_checkFromIndexSize 0 = .ok (.iload_n 2, 1) := dk_28 (dk_at dksJ18_checkFromIndexSize_0 0 rfl rfl)
theorem dJ18_checkFromIndexSize_1 : decode cJ18_checkFromIndexSize 1 = .ok (.iload_n 0, 1) := dk_26 (dk_at dksJ18_checkFromIndexSize_0 1 rfl rfl)
theorem dJ18_checkFromIndexSize_2 : decode cJ18_checkFromIndexSize 2 = .ok (.ior, 1) := dk_128 (dk_at dksJ18_checkFromIndexSize_0 2 rfl rfl)
theorem dJ18_checkFromIndexSize_3 : decode cJ18_checkFromIndexSize 3 = .ok (.iload_n 1, 1) := dk_27 (dk_at dksJ18_checkFromIndexSize_0 3 rfl rfl)
theorem dJ18_checkFromIndexSize_4 : decode cJ18_checkFromIndexSize 4 = .ok (.ior, 1) := dk_128 (dk_at dksJ18_checkFromIndexSize_0 4 rfl rfl)
theorem dJ18_checkFromIndexSize_5 : decode cJ18_checkFromIndexSize 5 = .ok (.ifCond .lt 10, 3) := dk_155 0 10 (dk_at dksJ18_checkFromIndexSize_0 5 rfl rfl)
theorem dJ18_checkFromIndexSize_8 : decode cJ18_checkFromIndexSize 8 = .ok (.iload_n 1, 1) := dk_27 (dk_at dksJ18_checkFromIndexSize_0 8 rfl rfl)
theorem dJ18_checkFromIndexSize_9 : decode cJ18_checkFromIndexSize 9 = .ok (.iload_n 2, 1) := dk_28 (dk_at dksJ18_checkFromIndexSize_0 9 rfl rfl)
theorem dJ18_checkFromIndexSize_10 : decode cJ18_checkFromIndexSize 10 = .ok (.iload_n 0, 1) := dk_26 (dk_at dksJ18_checkFromIndexSize_0 10 rfl rfl)
theorem dJ18_checkFromIndexSize_11 : decode cJ18_checkFromIndexSize 11 = .ok (.isub, 1) := dk_100 (dk_at dksJ18_checkFromIndexSize_0 11 rfl rfl)
theorem dJ18_checkFromIndexSize_12 : decode cJ18_checkFromIndexSize 12 = .ok (.if_icmp .le 11, 3) := dk_164 0 11 (dk_at dksJ18_checkFromIndexSize_0 12 rfl rfl)
theorem dJ18_checkFromIndexSize_15 : decode cJ18_checkFromIndexSize 15 = .ok (.aload_n 3, 1) := dk_45 (dk_at dksJ18_checkFromIndexSize_0 15 rfl rfl)
theorem dJ18_checkFromIndexSize_16 : decode cJ18_checkFromIndexSize 16 = .ok (.iload_n 0, 1) := dk_26 (dk_at dksJ18_checkFromIndexSize_0 16 rfl rfl)
theorem dJ18_checkFromIndexSize_17 : decode cJ18_checkFromIndexSize 17 = .ok (.iload_n 1, 1) := dk_27 (dk_at dksJ18_checkFromIndexSize_0 17 rfl rfl)
theorem dJ18_checkFromIndexSize_18 : decode cJ18_checkFromIndexSize 18 = .ok (.iload_n 2, 1) := dk_28 (dk_at dksJ18_checkFromIndexSize_0 18 rfl rfl)
theorem dJ18_checkFromIndexSize_19 : decode cJ18_checkFromIndexSize 19 = .ok (.invokestatic 103, 3) := dk_184 0 103 (dk_at dksJ18_checkFromIndexSize_0 19 rfl rfl)
theorem dJ18_checkFromIndexSize_22 : decode cJ18_checkFromIndexSize 22 = .ok (.athrow, 1) := dk_191 (dk_at dksJ18_checkFromIndexSize_0 22 rfl rfl)
theorem dJ18_checkFromIndexSize_23 : decode cJ18_checkFromIndexSize 23 = .ok (.iload_n 0, 1) := dk_26 (dk_at dksJ18_checkFromIndexSize_0 23 rfl rfl)
theorem dJ18_checkFromIndexSize_24 : decode cJ18_checkFromIndexSize 24 = .ok (.ireturn, 1) := dk_172 (dk_at dksJ18_checkFromIndexSize_1 0 rfl rfl)
abbrev cJ18_checkIndex : ByteArray := prog_39_method_11_code
def yJ18_checkIndex : MethodName := ⟨RJ18, "checkIndex", "(IILjava/util/function/BiFunction;)I"⟩
def dkwJ18_checkIndex_0 : List UInt8 := [26, 155, 0, 8, 26, 27, 161, 0, 10, 44, 26, 27, 184, 0, 95, 191, 26, 172]
abbrev dktJ18_checkIndex_0 : List UInt8 := dkwJ18_checkIndex_0 ++ []
theorem dksJ18_checkIndex_0 : cJ18_checkIndex.data.toList.drop 0 = dktJ18_checkIndex_0 := by decide +kernel
theorem dJ18_checkIndex_0 : decode cJ18_checkIndex 0 = .ok (.iload_n 0, 1) := dk_26 (dk_at dksJ18_checkIndex_0 0 rfl rfl)
theorem dJ18_checkIndex_1 : decode cJ18_checkIndex 1 = .ok (.ifCond .lt 8, 3) := dk_155 0 8 (dk_at dksJ18_checkIndex_0 1 rfl rfl)
theorem dJ18_checkIndex_4 : decode cJ18_checkIndex 4 = .ok (.iload_n 0, 1) := dk_26 (dk_at dksJ18_checkIndex_0 4 rfl rfl)
theorem dJ18_checkIndex_5 : decode cJ18_checkIndex 5 = .ok (.iload_n 1, 1) := dk_27 (dk_at dksJ18_checkIndex_0 5 rfl rfl)
theorem dJ18_checkIndex_6 : decode cJ18_checkIndex 6 = .ok (.if_icmp .lt 10, 3) := dk_161 0 10 (dk_at dksJ18_checkIndex_0 6 rfl rfl)
theorem dJ18_checkIndex_9 : decode cJ18_checkIndex 9 = .ok (.aload_n 2, 1) := dk_44 (dk_at dksJ18_checkIndex_0 9 rfl rfl)
theorem dJ18_checkIndex_10 : decode cJ18_checkIndex 10 = .ok (.iload_n 0, 1) := dk_26 (dk_at dksJ18_checkIndex_0 10 rfl rfl)
theorem dJ18_checkIndex_11 : decode cJ18_checkIndex 11 = .ok (.iload_n 1, 1) := dk_27 (dk_at dksJ18_checkIndex_0 11 rfl rfl)
theorem dJ18_checkIndex_12 : decode cJ18_checkIndex 12 = .ok (.invokestatic 95, 3) := dk_184 0 95 (dk_at dksJ18_checkIndex_0 12 rfl rfl)
theorem dJ18_checkIndex_15 : decode cJ18_checkIndex 15 = .ok (.athrow, 1) := dk_191 (dk_at dksJ18_checkIndex_0 15 rfl rfl)
theorem dJ18_checkIndex_16 : decode cJ18_checkIndex 16 = .ok (.iload_n 0, 1) := dk_26 (dk_at dksJ18_checkIndex_0 16 rfl rfl)
theorem dJ18_checkIndex_17 : decode cJ18_checkIndex 17 = .ok (.ireturn, 1) := dk_172 (dk_at dksJ18_checkIndex_0 17 rfl rfl)
theorem q60 : (Jvm.Cond.initialized "jdk/internal/util/Preconditions") ∈ lw_all := lw_g (lw_at lw_m1 21 rfl) rfl
theorem q468 : (Jvm.Cond.static ({ cls := "jdk/internal/util/Preconditions", name := "checkFromToIndex", desc := "(IIILjava/util/function/BiFunction;)I" } : Jvm.MethodName)) ∈ lw_all := lw_g (lw_at lw_m2 189 rfl) rfl
theorem q469 : (Jvm.Cond.code ({ cls := "jdk/internal/util/Preconditions", name := "checkFromToIndex", desc := "(IIILjava/util/function/BiFunction;)I" } : Jvm.MethodName) prog_39_method_12_code (4 : Nat) (Option.some Jvm.ClassFile.FieldType.int)) ∈ lw_all := lw_g (lw_at lw_m2 190 rfl) rfl
theorem q620 : (Jvm.Cond.laysStatic "jdk/internal/util/Preconditions" "SIOOBE_FORMATTER" "Ljava/util/function/BiFunction;") ∈ lw_tbl := lw_at lw_m3 101 rfl
theorem q666 : (Jvm.Cond.static ({ cls := "jdk/internal/util/Preconditions", name := "checkFromIndexSize", desc := "(IIILjava/util/function/BiFunction;)I" } : Jvm.MethodName)) ∈ lw_all := lw_g (lw_at lw_m3 147 rfl) rfl
theorem q667 : (Jvm.Cond.code ({ cls := "jdk/internal/util/Preconditions", name := "checkFromIndexSize", desc := "(IIILjava/util/function/BiFunction;)I" } : Jvm.MethodName) prog_39_method_13_code (4 : Nat) (Option.some Jvm.ClassFile.FieldType.int)) ∈ lw_all := lw_g (lw_at lw_m3 148 rfl) rfl
theorem q1003 : (Jvm.Cond.static ({ cls := "jdk/internal/util/Preconditions", name := "checkIndex", desc := "(IILjava/util/function/BiFunction;)I" } : Jvm.MethodName)) ∈ lw_all := lw_g (lw_at lw_m5 4 rfl) rfl
theorem q1004 : (Jvm.Cond.code ({ cls := "jdk/internal/util/Preconditions", name := "checkIndex", desc := "(IILjava/util/function/BiFunction;)I" } : Jvm.MethodName) prog_39_method_11_code (3 : Nat) (Option.some Jvm.ClassFile.FieldType.int)) ∈ lw_all := lw_g (lw_at lw_m5 5 rfl) rfl
/-! java/util/Arrays -/
set_option maxRecDepth 100000
def RJ19 : String := "java/util/Arrays"
abbrev cJ19_copyOf : ByteArray := prog_34_method_123_code
def yJ19_copyOf : MethodName := ⟨RJ19, "copyOf", "([II)[I"⟩
def dkwJ19_copyOf_1 : List UInt8 := [27, 184, 1, 48, 184, 0, 150, 44, 176]
abbrev dktJ19_copyOf_1 : List UInt8 := dkwJ19_copyOf_1 ++ []
def dkwJ19_copyOf_0 : List UInt8 := [27, 42, 190, 160, 0, 11, 42, 182, 1, 60, 192, 1, 61, 176, 27, 188, 10, 77, 42, 3, 44, 3, 42, 190]
abbrev dktJ19_copyOf_0 : List UInt8 := dkwJ19_copyOf_0 ++ dktJ19_copyOf_1
theorem dksJ19_copyOf_0 : cJ19_copyOf.data.toList.drop 0 = dktJ19_copyOf_0 := by decide +kernel
theorem dksJ19_copyOf_1 : cJ19_copyOf.data.toList.drop 24 = dktJ19_copyOf_1 := dk_seg dksJ19_copyOf_0 24 rfl rfl
theorem dJ19_copyOf_0 : decode cJ19_copyOf 0 = .ok (.iload_n 1, 1) := dk_27 (dk_at dksJ19_copyOf_0 0 rfl rfl)
theorem dJ19_copyOf_1 : decode cJ19_copyOf 1 = .ok (.aload_n 0, 1) := dk_42 (dk_at dksJ19_copyOf_0 1 rfl rfl)
theorem dJ19_copyOf_2 : decode cJ19_copyOf 2 = .ok (.arraylength, 1) := dk_190 (dk_at dksJ19_copyOf_0 2 rfl rfl)
theorem dJ19_copyOf_3 : decode cJ19_copyOf 3 = .ok (.if_icmp .ne 11, 3) := dk_160 0 11 (dk_at dksJ19_copyOf_0 3 rfl rfl)
theorem dJ19_copyOf_6 : decode cJ19_copyOf 6 = .ok (.aload_n 0, 1) := dk_42 (dk_at dksJ19_copyOf_0 6 rfl rfl)
theorem dJ19_copyOf_7 : decode cJ19_copyOf 7 = .ok (.invokevirtual 316, 3) := dk_182 1 60 (dk_at dksJ19_copyOf_0 7 rfl rfl)
theorem dJ19_copyOf_10 : decode cJ19_copyOf 10 = .ok (.checkcast 317, 3) := dk_192 1 61 (dk_at dksJ19_copyOf_0 10 rfl rfl)
theorem dJ19_copyOf_13 : decode cJ19_copyOf 13 = .ok (.areturn, 1) := dk_176 (dk_at dksJ19_copyOf_0 13 rfl rfl)
theorem dJ19_copyOf_14 : decode cJ19_copyOf 14 = .ok (.iload_n 1, 1) := dk_27 (dk_at dksJ19_copyOf_0 14 rfl rfl)
theorem dJ19_copyOf_15 : decode cJ19_copyOf 15 = .ok (.newarray .int, 2) := dk_188_10 (dk_at dksJ19_copyOf_0 15 rfl rfl)
theorem dJ19_copyOf_17 : decode cJ19_copyOf 17 = .ok (.astore_n 2, 1) := dk_77 (dk_at dksJ19_copyOf_0 17 rfl rfl)
theorem dJ19_copyOf_18 : decode cJ19_copyOf 18 = .ok (.aload_n 0, 1) := dk_42 (dk_at dksJ19_copyOf_0 18 rfl rfl)
theorem dJ19_copyOf_19 : decode cJ19_copyOf 19 = .ok (.iconst 0, 1) := dk_3 (dk_at dksJ19_copyOf_0 19 rfl rfl)
theorem dJ19_copyOf_20 : decode cJ19_copyOf 20 = .ok (.aload_n 2, 1) := dk_44 (dk_at dksJ19_copyOf_0 20 rfl rfl)
theorem dJ19_copyOf_21 : decode cJ19_copyOf 21 = .ok (.iconst 0, 1) := dk_3 (dk_at dksJ19_copyOf_0 21 rfl rfl)
theorem dJ19_copyOf_22 : decode cJ19_copyOf 22 = .ok (.aload_n 0, 1) := dk_42 (dk_at dksJ19_copyOf_0 22 rfl rfl)
theorem dJ19_copyOf_23 : decode cJ19_copyOf 23 = .ok (.arraylength, 1) := dk_190 (dk_at dksJ19_copyOf_0 23 rfl rfl)
theorem dJ19_copyOf_24 : decode cJ19_copyOf 24 = .ok (.iload_n 1, 1) := dk_27 (dk_at dksJ19_copyOf_1 0 rfl rfl)
theorem dJ19_copyOf_25 : decode cJ19_copyOf 25 = .ok (.invokestatic 304, 3) := dk_184 1 48 (dk_at dksJ19_copyOf_1 1 rfl rfl)
theorem dJ19_copyOf_28 : decode cJ19_copyOf 28 = .ok (.invokestatic 150, 3) := dk_184 0 150 (dk_at dksJ19_copyOf_1 4 rfl rfl)
theorem dJ19_copyOf_31 : decode cJ19_copyOf 31 = .ok (.aload_n 2, 1) := dk_44 (dk_at dksJ19_copyOf_1 7 rfl rfl)
theorem dJ19_copyOf_32 : decode cJ19_copyOf 32 = .ok (.areturn, 1) := dk_176 (dk_at dksJ19_copyOf_1 8 rfl rfl)
abbrev cJ19_copyOf_2 : ByteArray := prog_34_method_121_code
def yJ19_copyOf_2 : MethodName := ⟨RJ19, "copyOf", "([BI)[B"⟩
def dkwJ19_copyOf_2_1 : List UInt8 := [27, 184, 1, 48, 184, 0, 150, 44, 176]
abbrev dktJ19_copyOf_2_1 : List UInt8 := dkwJ19_copyOf_2_1 ++ []
def dkwJ19_copyOf_2_0 : List UInt8 := [27, 42, 190, 160, 0, 11, 42, 182, 1, 54, 192, 1, 55, 176, 27, 188, 8, 77, 42, 3, 44, 3, 42, 190]
abbrev dktJ19_copyOf_2_0 : List UInt8 := dkwJ19_copyOf_2_0 ++ dktJ19_copyOf_2_1
theorem dksJ19_copyOf_2_0 : cJ19_copyOf_2.data.toList.drop 0 = dktJ19_copyOf_2_0 := by decide +kernel
theorem dksJ19_copyOf_2_1 : cJ19_copyOf_2.data.toList.drop 24 = dktJ19_copyOf_2_1 := dk_seg dksJ19_copyOf_2_0 24 rfl rfl
theorem dJ19_copyOf_2_0 : decode cJ19_copyOf_2 0 = .ok (.iload_n 1, 1) := dk_27 (dk_at dksJ19_copyOf_2_0 0 rfl rfl)
theorem dJ19_copyOf_2_1 : decode cJ19_copyOf_2 1 = .ok (.aload_n 0, 1) := dk_42 (dk_at dksJ19_copyOf_2_0 1 rfl rfl)
theorem dJ19_copyOf_2_2 : decode cJ19_copyOf_2 2 = .ok (.arraylength, 1) := dk_190 (dk_at dksJ19_copyOf_2_0 2 rfl rfl)
theorem dJ19_copyOf_2_3 : decode cJ19_copyOf_2 3 = .ok (.if_icmp .ne 11, 3) := dk_160 0 11 (dk_at dksJ19_copyOf_2_0 3 rfl rfl)
theorem dJ19_copyOf_2_6 : decode cJ19_copyOf_2 6 = .ok (.aload_n 0, 1) := dk_42 (dk_at dksJ19_copyOf_2_0 6 rfl rfl)
theorem dJ19_copyOf_2_7 : decode cJ19_copyOf_2 7 = .ok (.invokevirtual 310, 3) := dk_182 1 54 (dk_at dksJ19_copyOf_2_0 7 rfl rfl)
theorem dJ19_copyOf_2_10 : decode cJ19_copyOf_2 10 = .ok (.checkcast 311, 3) := dk_192 1 55 (dk_at dksJ19_copyOf_2_0 10 rfl rfl)
theorem dJ19_copyOf_2_13 : decode cJ19_copyOf_2 13 = .ok (.areturn, 1) := dk_176 (dk_at dksJ19_copyOf_2_0 13 rfl rfl)
theorem dJ19_copyOf_2_14 : decode cJ19_copyOf_2 14 = .ok (.iload_n 1, 1) := dk_27 (dk_at dksJ19_copyOf_2_0 14 rfl rfl)
theorem dJ19_copyOf_2_15 : decode cJ19_copyOf_2 15 = .ok (.newarray .byte, 2) := dk_188_8 (dk_at dksJ19_copyOf_2_0 15 rfl rfl)
theorem dJ19_copyOf_2_17 : decode cJ19_copyOf_2 17 = .ok (.astore_n 2, 1) := dk_77 (dk_at dksJ19_copyOf_2_0 17 rfl rfl)
theorem dJ19_copyOf_2_18 : decode cJ19_copyOf_2 18 = .ok (.aload_n 0, 1) := dk_42 (dk_at dksJ19_copyOf_2_0 18 rfl rfl)
theorem dJ19_copyOf_2_19 : decode cJ19_copyOf_2 19 = .ok (.iconst 0, 1) := dk_3 (dk_at dksJ19_copyOf_2_0 19 rfl rfl)
theorem dJ19_copyOf_2_20 : decode cJ19_copyOf_2 20 = .ok (.aload_n 2, 1) := dk_44 (dk_at dksJ19_copyOf_2_0 20 rfl rfl)
theorem dJ19_copyOf_2_21 : decode cJ19_copyOf_2 21 = .ok (.iconst 0, 1) := dk_3 (dk_at dksJ19_copyOf_2_0 21 rfl rfl)
theorem dJ19_copyOf_2_22 : decode cJ19_copyOf_2 22 = .ok (.aload_n 0, 1) := dk_42 (dk_at dksJ19_copyOf_2_0 22 rfl rfl)
theorem dJ19_copyOf_2_23 : decode cJ19_copyOf_2 23 = .ok (.arraylength, 1) := dk_190 (dk_at dksJ19_copyOf_2_0 23 rfl rfl)
theorem dJ19_copyOf_2_24 : decode cJ19_copyOf_2 24 = .ok (.iload_n 1, 1) := dk_27 (dk_at dksJ19_copyOf_2_1 0 rfl rfl)
theorem dJ19_copyOf_2_25 : decode cJ19_copyOf_2 25 = .ok (.invokestatic 304, 3) := dk_184 1 48 (dk_at dksJ19_copyOf_2_1 1 rfl rfl)
theorem dJ19_copyOf_2_28 : decode cJ19_copyOf_2 28 = .ok (.invokestatic 150, 3) := dk_184 0 150 (dk_at dksJ19_copyOf_2_1 4 rfl rfl)
theorem dJ19_copyOf_2_31 : decode cJ19_copyOf_2 31 = .ok (.aload_n 2, 1) := dk_44 (dk_at dksJ19_copyOf_2_1 7 rfl rfl)
theorem dJ19_copyOf_2_32 : decode cJ19_copyOf_2 32 = .ok (.areturn, 1) := dk_176 (dk_at dksJ19_copyOf_2_1 8 rfl rfl)
abbrev cJ19_copyOfRange : ByteArray := prog_34_method_132_code
def yJ19_copyOfRange : MethodName := ⟨RJ19, "copyOfRange", "([BII)[B"⟩
def dkwJ19_copyOfRange_1 : List UInt8 := [176]
abbrev dktJ19_copyOfRange_1 : List UInt8 := dkwJ19_copyOfRange_1 ++ []
def dkwJ19_copyOfRange_0 : List UInt8 := [27, 154, 0, 9, 28, 42, 190, 159, 0, 10, 42, 27, 28, 184, 1, 83, 176, 42, 182, 1, 54, 192, 1, 55]
abbrev dktJ19_copyOfRange_0 : List UInt8 := dkwJ19_copyOfRange_0 ++ dktJ19_copyOfRange_1
theorem dksJ19_copyOfRange_0 : cJ19_copyOfRange.data.toList.drop 0 = dktJ19_copyOfRange_0 := by decide +kernel
theorem dksJ19_copyOfRange_1 : cJ19_copyOfRange.data.toList.drop 24 = dktJ19_copyOfRange_1 := dk_seg dksJ19_copyOfRange_0 24 rfl rfl
theorem dJ19_copyOfRange_0 : decode cJ19_copyOfRange 0 = .ok (.iload_n 1, 1) := dk_27 (dk_at dksJ19_copyOfRange_0 0 rfl rfl)
theorem dJ19_copyOfRange_1 : decode cJ19_copyOfRange 1 = .ok (.ifCond .ne 9, 3) := dk_154 0 9 (dk_at dksJ19_copyOfRange_0 1 rfl rfl)
theorem dJ19_copyOfRange_4 : decode cJ19_copyOfRange 4 = .ok (.iload_n 2, 1) := dk_28 (dk_at dksJ19_copyOfRange_0 4 rfl rfl)
theorem dJ19_copyOfRange_5 : decode cJ19_copyOfRange 5 = .ok (.aload_n 0, 1) := dk_42 (dk_at dksJ19_copyOfRange_0 5 rfl rfl)
theorem dJ19_copyOfRange_6 : decode cJ19_copyOfRange 6 = .ok (.arraylength, 1) := dk_190 (dk_at dksJ19_copyOfRange_0 6 rfl rfl)
theorem dJ19_copyOfRange_7 : decode cJ19_copyOfRange 7 = .ok (.if_icmp .eq 10, 3) := dk_159 0 10 (dk_at dksJ19_copyOfRange_0 7 rfl rfl)
theorem dJ19_copyOfRange_10 : decode cJ19_copyOfRange 10 = .ok (.aload_n 0, 1) := dk_42 (dk_at dksJ19_copyOfRange_0 10 rfl rfl)
theorem dJ19_copyOfRange_11 : decode cJ19_copyOfRange 11 = .ok (.iload_n 1, 1) := dk_27 (dk_at dksJ19_copyOfRange_0 11 rfl rfl)
theorem dJ19_copyOfRange_12 : decode cJ19_copyOfRange 12 = .ok (.iload_n 2, 1) := dk_28 (dk_at dksJ19_copyOfRange_0 12 rfl rfl)
theorem dJ19_copyOfRange_13 : decode cJ19_copyOfRange 13 = .ok (.invokestatic 339, 3) := dk_184 1 83 (dk_at dksJ19_copyOfRange_0 13 rfl rfl)
theorem dJ19_copyOfRange_16 : decode cJ19_copyOfRange 16 = .ok (.areturn, 1) := dk_176 (dk_at dksJ19_copyOfRange_0 16 rfl rfl)
theorem dJ19_copyOfRange_17 : decode cJ19_copyOfRange 17 = .ok (.aload_n 0, 1) := dk_42 (dk_at dksJ19_copyOfRange_0 17 rfl rfl)
theorem dJ19_copyOfRange_18 : decode cJ19_copyOfRange 18 = .ok (.invokevirtual 310, 3) := dk_182 1 54 (dk_at dksJ19_copyOfRange_0 18 rfl rfl)
theorem dJ19_copyOfRange_21 : decode cJ19_copyOfRange 21 = .ok (.checkcast 311, 3) := dk_192 1 55 (dk_at dksJ19_copyOfRange_0 21 rfl rfl)
theorem dJ19_copyOfRange_24 : decode cJ19_copyOfRange 24 = .ok (.areturn, 1) := dk_176 (dk_at dksJ19_copyOfRange_1 0 rfl rfl)
abbrev cJ19_copyOfRangeByte : ByteArray := prog_34_method_133_code
def yJ19_copyOfRangeByte : MethodName := ⟨RJ19, "copyOfRangeByte", "([BII)[B"⟩
def dkwJ19_copyOfRangeByte_1 : List UInt8 := [184, 1, 48, 184, 0, 150, 25, 4, 176]
abbrev dktJ19_copyOfRangeByte_1 : List UInt8 := dkwJ19_copyOfRangeByte_1 ++ []
def dkwJ19_copyOfRangeByte_0 : List UInt8 := [27, 28, 184, 1, 87, 28, 27, 100, 62, 29, 188, 8, 58, 4, 42, 27, 25, 4, 3, 42, 190, 27, 100, 29]
abbrev dktJ19_copyOfRangeByte_0 : List UInt8 := dkwJ19_copyOfRangeByte_0 ++ dktJ19_copyOfRangeByte_1
theorem dksJ19_copyOfRangeByte_0 : cJ19_copyOfRangeByte.data.toList.drop 0 = dktJ19_copyOfRangeByte_0 := by decide +kernel
theorem dksJ19_copyOfRangeByte_1 : cJ19_copyOfRangeByte.data.toList.drop 24 = dktJ19_copyOfRangeByte_1 := dk_seg dksJ19_copyOfRangeByte_0 24 rfl rfl
theorem dJ19_copyOfRangeByte_0 : decode cJ19_copyOfRangeByte 0 = .ok (.iload_n 1, 1) := dk_27 (dk_at dksJ19_copyOfRangeByte_0 0 rfl rfl)
theorem dJ19_copyOfRangeByte_1 : decode cJ19_copyOfRangeByte 1 = .ok (.iload_n 2, 1) := dk_28 (dk_at dksJ19_copyOfRangeByte_0 1 rfl rfl)
theorem dJ19_copyOfRangeByte_2 : decode cJ19_copyOfRangeByte 2 = .ok (.invokestatic 343, 3) := dk_184 1 87 (dk_at dksJ19_copyOfRangeByte_0 2 rfl rfl)
theorem dJ19_copyOfRangeByte_5 : decode cJ19_copyOfRangeByte 5 = .ok (.iload_n 2, 1) := dk_28 (dk_at dksJ19_copyOfRangeByte_0 5 rfl rfl)
theorem dJ19_copyOfRangeByte_6 : decode cJ19_copyOfRangeByte 6 = .ok (.iload_n 1, 1) := dk_27 (dk_at dksJ19_copyOfRangeByte_0 6 rfl rfl)
theorem dJ19_copyOfRangeByte_7 : decode cJ19_copyOfRangeByte 7 = .ok (.isub, 1) := dk_100 (dk_at dksJ19_copyOfRangeByte_0 7 rfl rfl)
theorem dJ19_copyOfRangeByte_8 : decode cJ19_copyOfRangeByte 8 = .ok (.istore_n 3, 1) := dk_62 (dk_at dksJ19_copyOfRangeByte_0 8 rfl rfl)
theorem dJ19_copyOfRangeByte_9 : decode cJ19_copyOfRangeByte 9 = .ok (.iload_n 3, 1) := dk_29 (dk_at dksJ19_copyOfRangeByte_0 9 rfl rfl)
theorem dJ19_copyOfRangeByte_10 : decode cJ19_copyOfRangeByte 10 = .ok (.newarray .byte, 2) := dk_188_8 (dk_at dksJ19_copyOfRangeByte_0 10 rfl rfl)
theorem dJ19_copyOfRangeByte_12 : decode cJ19_copyOfRangeByte 12 = .ok (.astore 4, 2) := dk_58 4 (dk_at dksJ19_copyOfRangeByte_0 12 rfl rfl)
theorem dJ19_copyOfRangeByte_14 : decode cJ19_copyOfRangeByte 14 = .ok (.aload_n 0, 1) := dk_42 (dk_at dksJ19_copyOfRangeByte_0 14 rfl rfl)
theorem dJ19_copyOfRangeByte_15 : decode cJ19_copyOfRangeByte 15 = .ok (.iload_n 1, 1) := dk_27 (dk_at dksJ19_copyOfRangeByte_0 15 rfl rfl)
theorem dJ19_copyOfRangeByte_16 : decode cJ19_copyOfRangeByte 16 = .ok (.aload 4, 2) := dk_25 4 (dk_at dksJ19_copyOfRangeByte_0 16 rfl rfl)
theorem dJ19_copyOfRangeByte_18 : decode cJ19_copyOfRangeByte 18 = .ok (.iconst 0, 1) := dk_3 (dk_at dksJ19_copyOfRangeByte_0 18 rfl rfl)
theorem dJ19_copyOfRangeByte_19 : decode cJ19_copyOfRangeByte 19 = .ok (.aload_n 0, 1) := dk_42 (dk_at dksJ19_copyOfRangeByte_0 19 rfl rfl)
theorem dJ19_copyOfRangeByte_20 : decode cJ19_copyOfRangeByte 20 = .ok (.arraylength, 1) := dk_190 (dk_at dksJ19_copyOfRangeByte_0 20 rfl rfl)
theorem dJ19_copyOfRangeByte_21 : decode cJ19_copyOfRangeByte 21 = .ok (.iload_n 1, 1) := dk_27 (dk_at dksJ19_copyOfRangeByte_0 21 rfl rfl)
theorem dJ19_copyOfRangeByte_22 : decode cJ19_copyOfRangeByte 22 = .ok (.isub, 1) := dk_100 (dk_at dksJ19_copyOfRangeByte_0 22 rfl rfl)
theorem dJ19_copyOfRangeByte_23 : decode cJ19_copyOfRangeByte 23 = .ok (.iload_n 3, 1) := dk_29 (dk_at dksJ19_copyOfRangeByte_0 23 rfl rfl)
theorem dJ19_copyOfRangeByte_24 : decode cJ19_copyOfRangeByte 24 = .ok (.invokestatic 304, 3) := dk_184 1 48 (dk_at dksJ19_copyOfRangeByte_1 0 rfl rfl)
theorem dJ19_copyOfRangeByte_27 : decode cJ19_copyOfRangeByte 27 = .ok (.invokestatic 150, 3) := dk_184 0 150 (dk_at dksJ19_copyOfRangeByte_1 3 rfl rfl)
theorem dJ19_copyOfRangeByte_30 : decode cJ19_copyOfRangeByte 30 = .ok (.aload 4, 2) := dk_25 4 (dk_at dksJ19_copyOfRangeByte_1 6 rfl rfl)
theorem dJ19_copyOfRangeByte_32 : decode cJ19_copyOfRangeByte 32 = .ok (.areturn, 1) := dk_176 (dk_at dksJ19_copyOfRangeByte_1 8 rfl rfl)
abbrev cJ19_checkLength : ByteArray := prog_34_method_131_code
def yJ19_checkLength : MethodName := ⟨RJ19, "checkLength", "(II)V"⟩
def dkwJ19_checkLength_1 : List UInt8 := [182, 0, 50, 27, 182, 0, 54, 182, 0, 61, 183, 0, 65, 191, 177]
abbrev dktJ19_checkLength_1 : List UInt8 := dkwJ19_checkLength_1 ++ []
def dkwJ19_checkLength_0 : List UInt8 := [27, 26, 162, 0, 35, 187, 0, 43, 89, 187, 0, 45, 89, 183, 0, 47, 26, 182, 0, 54, 19, 1, 81]
abbrev dktJ19_checkLength_0 : List UInt8 := dkwJ19_checkLength_0 ++ dktJ19_checkLength_1
theorem dksJ19_checkLength_0 : cJ19_checkLength.data.toList.drop 0 = dktJ19_checkLength_0 := by decide +kernel
theorem dksJ19_checkLength_1 : cJ19_checkLength.data.toList.drop 23 = dktJ19_checkLength_1 := dk_seg dksJ19_checkLength_0 23 rfl rfl
theorem dJ19_checkLength_0 : decode cJ19_checkLength 0 = .ok (.iload_n 1, 1) := dk_27 (dk_at dksJ19_checkLength_0 0 rfl rfl)
theorem dJ19_checkLength_1 : decode cJ19_checkLength 1 = .ok (.iload_n 0, 1) := dk_26 (dk_at dksJ19_checkLength_0 1 rfl rfl)
theorem dJ19_checkLength_2 : decode cJ19_checkLength 2 = .ok (.if_icmp .ge 35, 3) := dk_162 0 35 (dk_at dksJ19_checkLength_0 2 rfl rfl)
theorem dJ19_checkLength_5 : decode cJ19_checkLength 5 = .ok (.new 43, 3) := dk_187 0 43 (dk_at dksJ19_checkLength_0 5 rfl rfl)
theorem dJ19_checkLength_8 : decode cJ19_checkLength 8 = .ok (.dup, 1) := dk_89 (dk_at dksJ19_checkLength_0 8 rfl rfl)
theorem dJ19_checkLength_9 : decode cJ19_checkLength 9 = .ok (.new 45, 3) := dk_187 0 45 (dk_at dksJ19_checkLength_0 9 rfl rfl)
theorem dJ19_checkLength_12 : decode cJ19_checkLength 12 = .ok (.dup, 1) := dk_89 (dk_at dksJ19_checkLength_0 12 rfl rfl)
theorem dJ19_checkLength_13 : decode cJ19_checkLength 13 = .ok (.invokespecial 47, 3) := dk_183 0 47 (dk_at dksJ19_checkLength_0 13 rfl rfl)
theorem dJ19_checkLength_16 : decode cJ19_checkLength 16 = .ok (.iload_n 0, 1) := dk_26 (dk_at dksJ19_checkLength_0 16 rfl rfl)
theorem dJ19_checkLength_17 : decode cJ19_checkLength 17 = .ok (.invokevirtual 54, 3) := dk_182 0 54 (dk_at dksJ19_checkLength_0 17 rfl rfl)
theorem dJ19_checkLength_20 : decode cJ19_checkLength 20 = .ok (.ldc_w 337, 3) := dk_19 1 81 (dk_at dksJ19_checkLength_0 20 rfl rfl)
theorem dJ19_checkLength_23 : decode cJ19_checkLength 23 = .ok (.invokevirtual 50, 3) := dk_182 0 50 (dk_at dksJ19_checkLength_1 0 rfl rfl)
theorem dJ19_checkLength_26 : decode cJ19_checkLength 26 = .ok (.iload_n 1, 1) := dk_27 (dk_at dksJ19_checkLength_1 3 rfl rfl)
theorem dJ19_checkLength_27 : decode cJ19_checkLength 27 = .ok (.invokevirtual 54, 3) := dk_182 0 54 (dk_at dksJ19_checkLength_1 4 rfl rfl)
theorem dJ19_checkLength_30 : decode cJ19_checkLength 30 = .ok (.invokevirtual 61, 3) := dk_182 0 61 (dk_at dksJ19_checkLength_1 7 rfl rfl)
theorem dJ19_checkLength_33 : decode cJ19_checkLength 33 = .ok (.invokespecial 65, 3) := dk_183 0 65 (dk_at dksJ19_checkLength_1 10 rfl rfl)
theorem dJ19_checkLength_36 : decode cJ19_checkLength 36 = .ok (.athrow, 1) := dk_191 (dk_at dksJ19_checkLength_1 13 rfl rfl)
theorem dJ19_checkLength_37 : decode cJ19_checkLength 37 = .ok (.return_, 1) := dk_177 (dk_at dksJ19_checkLength_1 14 rfl rfl)
abbrev cJ19_copyOfRange_2 : ByteArray := prog_34_method_136_code
def yJ19_copyOfRange_2 : MethodName := ⟨RJ19, "copyOfRange", "([III)[I"⟩
def dkwJ19_copyOfRange_2_1 : List UInt8 := [176]
abbrev dktJ19_copyOfRange_2_1 : List UInt8 := dkwJ19_copyOfRange_2_1 ++ []
def dkwJ19_copyOfRange_2_0 : List UInt8 := [27, 154, 0, 9, 28, 42, 190, 159, 0, 10, 42, 27, 28, 184, 1, 95, 176, 42, 182, 1, 60, 192, 1, 61]
abbrev dktJ19_copyOfRange_2_0 : List UInt8 := dkwJ19_copyOfRange_2_0 ++ dktJ19_copyOfRange_2_1
theorem dksJ19_copyOfRange_2_0 : cJ19_copyOfRange_2.data.toList.drop 0 = dktJ19_copyOfRange_2_0 := by decide +kernel
theorem dksJ19_copyOfRange_2_1 : cJ19_copyOfRange_2.data.toList.drop 24 = dktJ19_copyOfRange_2_1 := dk_seg dksJ19_copyOfRange_2_0 24 rfl rfl
theorem dJ19_copyOfRange_2_0 : decode cJ19_copyOfRange_2 0 = .ok (.iload_n 1, 1) := dk_27 (dk_at dksJ19_copyOfRange_2_0 0 rfl rfl)
theorem dJ19_copyOfRange_2_1 : decode cJ19_copyOfRange_2 1 = .ok (.ifCond .ne 9, 3) := dk_154 0 9 (dk_at dksJ19_copyOfRange_2_0 1 rfl rfl)
theorem dJ19_copyOfRange_2_4 : decode cJ19_copyOfRange_2 4 = .ok (.iload_n 2, 1) := dk_28 (dk_at dksJ19_copyOfRange_2_0 4 rfl rfl)
theorem dJ19_copyOfRange_2_5 : decode cJ19_copyOfRange_2 5 = .ok (.aload_n 0, 1) := dk_42 (dk_at dksJ19_copyOfRange_2_0 5 rfl rfl)
theorem dJ19_copyOfRange_2_6 : decode cJ19_copyOfRange_2 6 = .ok (.arraylength, 1) := dk_190 (dk_at dksJ19_copyOfRange_2_0 6 rfl rfl)
theorem dJ19_copyOfRange_2_7 : decode cJ19_copyOfRange_2 7 = .ok (.if_icmp .eq 10, 3) := dk_159 0 10 (dk_at dksJ19_copyOfRange_2_0 7 rfl rfl)
theorem dJ19_copyOfRange_2_10 : decode cJ19_copyOfRange_2 10 = .ok (.aload_n 0, 1) := dk_42 (dk_at dksJ19_copyOfRange_2_0 10 rfl rfl)
theorem dJ19_copyOfRange_2_11 : decode cJ19_copyOfRange_2 11 = .ok (.iload_n 1, 1) := dk_27 (dk_at dksJ19_copyOfRange_2_0 11 rfl rfl)
theorem dJ19_copyOfRange_2_12 : decode cJ19_copyOfRange_2 12 = .ok (.iload_n 2, 1) := dk_28 (dk_at dksJ19_copyOfRange_2_0 12 rfl rfl)
theorem dJ19_copyOfRange_2_13 : decode cJ19_copyOfRange_2 13 = .ok (.invokestatic 351, 3) := dk_184 1 95 (dk_at dksJ19_copyOfRange_2_0 13 rfl rfl)
theorem dJ19_copyOfRange_2_16 : decode cJ19_copyOfRange_2 16 = .ok (.areturn, 1) := dk_176 (dk_at dksJ19_copyOfRange_2_0 16 rfl rfl)
theorem dJ19_copyOfRange_2_17 : decode cJ19_copyOfRange_2 17 = .ok (.aload_n 0, 1) := dk_42 (dk_at dksJ19_copyOfRange_2_0 17 rfl rfl)
theorem dJ19_copyOfRange_2_18 : decode cJ19_copyOfRange_2 18 = .ok (.invokevirtual 316, 3) := dk_182 1 60 (dk_at dksJ19_copyOfRange_2_0 18 rfl rfl)
theorem dJ19_copyOfRange_2_21 : decode cJ19_copyOfRange_2 21 = .ok (.checkcast 317, 3) := dk_192 1 61 (dk_at dksJ19_copyOfRange_2_0 21 rfl rfl)
theorem dJ19_copyOfRange_2_24 : decode cJ19_copyOfRange_2 24 = .ok (.areturn, 1) := dk_176 (dk_at dksJ19_copyOfRange_2_1 0 rfl rfl)
abbrev cJ19_copyOfRangeInt : ByteArray := prog_34_method_137_code
def yJ19_copyOfRangeInt : MethodName := ⟨RJ19, "copyOfRangeInt", "([III)[I"⟩
def dkwJ19_copyOfRangeInt_1 : List UInt8 := [184, 1, 48, 184, 0, 150, 25, 4, 176]
abbrev dktJ19_copyOfRangeInt_1 : List UInt8 := dkwJ19_copyOfRangeInt_1 ++ []
def dkwJ19_copyOfRangeInt_0 : List UInt8 := [27, 28, 184, 1, 87, 28, 27, 100, 62, 29, 188, 10, 58, 4, 42, 27, 25, 4, 3, 42, 190, 27, 100, 29]
abbrev dktJ19_copyOfRangeInt_0 : List UInt8 := dkwJ19_copyOfRangeInt_0 ++ dktJ19_copyOfRangeInt_1
theorem dksJ19_copyOfRangeInt_0 : cJ19_copyOfRangeInt.data.toList.drop 0 = dktJ19_copyOfRangeInt_0 := by decide +kernel
theorem dksJ19_copyOfRangeInt_1 : cJ19_copyOfRangeInt.data.toList.drop 24 = dktJ19_copyOfRangeInt_1 := dk_seg dksJ19_copyOfRangeInt_0 24 rfl rfl
theorem dJ19_copyOfRangeInt_0 : decode cJ19_copyOfRangeInt 0 = .ok (.iload_n 1, 1) := dk_27 (dk_at dksJ19_copyOfRangeInt_0 0 rfl rfl)
theorem dJ19_copyOfRangeInt_1 : decode cJ19_copyOfRangeInt 1 = .ok (.iload_n 2, 1) := dk_28 (dk_at dksJ19_copyOfRangeInt_0 1 rfl rfl)
theorem dJ19_copyOfRangeInt_2 : decode cJ19_copyOfRangeInt 2 = .ok (.invokestatic 343, 3) := dk_184 1 87 (dk_at dksJ19_copyOfRangeInt_0 2 rfl rfl)
theorem dJ19_copyOfRangeInt_5 : decode cJ19_copyOfRangeInt 5 = .ok (.iload_n 2, 1) := dk_28 (dk_at dksJ19_copyOfRangeInt_0 5 rfl rfl)
theorem dJ19_copyOfRangeInt_6 : decode cJ19_copyOfRangeInt 6 = .ok (.iload_n 1, 1) := dk_27 (dk_at dksJ19_copyOfRangeInt_0 6 rfl rfl)
theorem dJ19_copyOfRangeInt_7 : decode cJ19_copyOfRangeInt 7 = .ok (.isub, 1) := dk_100 (dk_at dksJ19_copyOfRangeInt_0 7 rfl rfl)
theorem dJ19_copyOfRangeInt_8 : decode cJ19_copyOfRangeInt 8 = .ok (.istore_n 3, 1) := dk_62 (dk_at dksJ19_copyOfRangeInt_0 8 rfl rfl)
theorem dJ19_copyOfRangeInt_9 : decode cJ19_copyOfRangeInt 9 = .ok (.iload_n 3, 1) := dk_29 (dk_at dksJ19_copyOfRangeInt_0 9 rfl rfl)
theorem dJ19_copyOfRangeInt_10 : decode cJ19_copyOfRangeInt 10 = .ok (.newarray .int, 2) := dk_188_10 (dk_at dksJ19_copyOfRangeInt_0 10 rfl rfl)
theorem dJ19_copyOfRangeInt_12 : decode cJ19_copyOfRangeInt 12 = .ok (.astore 4, 2) := dk_58 4 (dk_at dksJ19_copyOfRangeInt_0 12 rfl rfl)
theorem dJ19_copyOfRangeInt_14 : decode cJ19_copyOfRangeInt 14 = .ok (.aload_n 0, 1) := dk_42 (dk_at dksJ19_copyOfRangeInt_0 14 rfl rfl)
theorem dJ19_copyOfRangeInt_15 : decode cJ19_copyOfRangeInt 15 = .ok (.iload_n 1, 1) := dk_27 (dk_at dksJ19_copyOfRangeInt_0 15 rfl rfl)
theorem dJ19_copyOfRangeInt_16 : decode cJ19_copyOfRangeInt 16 = .ok (.aload 4, 2) := dk_25 4 (dk_at dksJ19_copyOfRangeInt_0 16 rfl rfl)
theorem dJ19_copyOfRangeInt_18 : decode cJ19_copyOfRangeInt 18 = .ok (.iconst 0, 1) := dk_3 (dk_at dksJ19_copyOfRangeInt_0 18 rfl rfl)
theorem dJ19_copyOfRangeInt_19 : decode cJ19_copyOfRangeInt 19 = .ok (.aload_n 0, 1) := dk_42 (dk_at dksJ19_copyOfRangeInt_0 19 rfl rfl)
theorem dJ19_copyOfRangeInt_20 : decode cJ19_copyOfRangeInt 20 = .ok (.arraylength, 1) := dk_190 (dk_at dksJ19_copyOfRangeInt_0 20 rfl rfl)
theorem dJ19_copyOfRangeInt_21 : decode cJ19_copyOfRangeInt 21 = .ok (.iload_n 1, 1) := dk_27 (dk_at dksJ19_copyOfRangeInt_0 21 rfl rfl)
theorem dJ19_copyOfRangeInt_22 : decode cJ19_copyOfRangeInt 22 = .ok (.isub, 1) := dk_100 (dk_at dksJ19_copyOfRangeInt_0 22 rfl rfl)
theorem dJ19_copyOfRangeInt_23 : decode cJ19_copyOfRangeInt 23 = .ok (.iload_n 3, 1) := dk_29 (dk_at dksJ19_copyOfRangeInt_0 23 rfl rfl)
theorem dJ19_copyOfRangeInt_24 : decode cJ19_copyOfRangeInt 24 = .ok (.invokestatic 304, 3) := dk_184 1 48 (dk_at dksJ19_copyOfRangeInt_1 0 rfl rfl)
theorem dJ19_copyOfRangeInt_27 : decode cJ19_copyOfRangeInt 27 = .ok (.invokestatic 150, 3) := dk_184 0 150 (dk_at dksJ19_copyOfRangeInt_1 3 rfl rfl)
theorem dJ19_copyOfRangeInt_30 : decode cJ19_copyOfRangeInt 30 = .ok (.aload 4, 2) := dk_25 4 (dk_at dksJ19_copyOfRangeInt_1 6 rfl rfl)
theorem dJ19_copyOfRangeInt_32 : decode cJ19_copyOfRangeInt 32 = .ok (.areturn, 1) := dk_176 (dk_at dksJ19_copyOfRangeInt_1 8 rfl rfl)
abbrev cJ19_sort : ByteArray := prog_34_method_14_code
def yJ19_sort : MethodName := ⟨RJ19, "sort", "([D)V"⟩
def dkwJ19_sort_0 : List UInt8 := [42, 3, 3, 42, 190, 184, 0, 34, 177]
abbrev dktJ19_sort_0 : List UInt8 := dkwJ19_sort_0 ++ []
theorem dksJ19_sort_0 : cJ19_sort.data.toList.drop 0 = dktJ19_sort_0 := by decide +kernel
theorem dJ19_sort_0 : decode cJ19_sort 0 = .ok (.aload_n 0, 1) := dk_42 (dk_at dksJ19_sort_0 0 rfl rfl)
theorem dJ19_sort_1 : decode cJ19_sort 1 = .ok (.iconst 0, 1) := dk_3 (dk_at dksJ19_sort_0 1 rfl rfl)
theorem dJ19_sort_2 : decode cJ19_sort 2 = .ok (.iconst 0, 1) := dk_3 (dk_at dksJ19_sort_0 2 rfl rfl)
theorem dJ19_sort_3 : decode cJ19_sort 3 = .ok (.aload_n 0, 1) := dk_42 (dk_at dksJ19_sort_0 3 rfl rfl)
theorem dJ19_sort_4 : decode cJ19_sort 4 = .ok (.arraylength, 1) := dk_190 (dk_at dksJ19_sort_0 4 rfl rfl)
theorem dJ19_sort_5 : decode cJ19_sort 5 = .ok (.invokestatic 34, 3) := dk_184 0 34 (dk_at dksJ19_sort_0 5 rfl rfl)
theorem dJ19_sort_8 : decode cJ19_sort 8 = .ok (.return_, 1) := dk_177 (dk_at dksJ19_sort_0 8 rfl rfl)
theorem q61 : (Jvm.Cond.initialized "java/util/Arrays") ∈ lw_all := lw_g (lw_at lw_m1 22 rfl) rfl
theorem q489 : (Jvm.Cond.static ({ cls := "java/util/Arrays", name := "copyOf", desc := "([II)[I" } : Jvm.MethodName)) ∈ lw_all := lw_g (lw_at lw_m2 210 rfl) rfl
theorem q490 : (Jvm.Cond.code ({ cls := "java/util/Arrays", name := "copyOf", desc := "([II)[I" } : Jvm.MethodName) prog_34_method_123_code (3 : Nat) (Option.some (Jvm.ClassFile.FieldType.array Jvm.ClassFile.FieldType.int))) ∈ lw_all := lw_g (lw_at lw_m2 211 rfl) rfl
theorem q491 : (Jvm.Cond.methodLink "java/util/Arrays" (316 : Nat) ({ cls := "[I", name := "clone", desc := "()Ljava/lang/Object;" } : Jvm.MethodName)) ∈ lw_all := lw_g (lw_at lw_m2 212 rfl) rfl
theorem q497 : (Jvm.Cond.classLink "java/util/Arrays" (317 : Nat) "[I") ∈ lw_all := lw_g (lw_at lw_m2 218 rfl) rfl
theorem q498 : (Jvm.Cond.methodLink "java/util/Arrays" (304 : Nat) ({ cls := "java/lang/Math", name := "min", desc := "(II)I" } : Jvm.MethodName)) ∈ lw_all := lw_g (lw_at lw_m2 219 rfl) rfl
theorem q499 : (Jvm.Cond.methodLink "java/util/Arrays" (150 : Nat) ({ cls := "java/lang/System", name := "arraycopy", desc := "(Ljava/lang/Object;ILjava/lang/Object;II)V" } : Jvm.MethodName)) ∈ lw_all := lw_g (lw_at lw_m2 220 rfl) rfl
theorem q595 : (Jvm.Cond.static ({ cls := "java/util/Arrays", name := "copyOf", desc := "([BI)[B" } : Jvm.MethodName)) ∈ lw_all := lw_g (lw_at lw_m3 76 rfl) rfl
theorem q596 : (Jvm.Cond.code ({ cls := "java/util/Arrays", name := "copyOf", desc := "([BI)[B" } : Jvm.MethodName) prog_34_method_121_code (3 : Nat) (Option.some (Jvm.ClassFile.FieldType.array Jvm.ClassFile.FieldType.byte))) ∈ lw_all := lw_g (lw_at lw_m3 77 rfl) rfl
theorem q597 : (Jvm.Cond.methodLink "java/util/Arrays" (310 : Nat) ({ cls := "[B", name := "clone", desc := "()Ljava/lang/Object;" } : Jvm.MethodName)) ∈ lw_all := lw_g (lw_at lw_m3 78 rfl) rfl
theorem q601 : (Jvm.Cond.classLink "java/util/Arrays" (311 : Nat) "[B") ∈ lw_all := lw_g (lw_at lw_m3 82 rfl) rfl
theorem q726 : (Jvm.Cond.static ({ cls := "java/util/Arrays", name := "copyOfRange", desc := "([BII)[B" } : Jvm.MethodName)) ∈ lw_all := lw_g (lw_at lw_m3 207 rfl) rfl
theorem q727 : (Jvm.Cond.code ({ cls := "java/util/Arrays", name := "copyOfRange", desc := "([BII)[B" } : Jvm.MethodName) prog_34_method_132_code (3 : Nat) (Option.some (Jvm.ClassFile.FieldType.array Jvm.ClassFile.FieldType.byte))) ∈ lw_all := lw_g (lw_at lw_m3 208 rfl) rfl
theorem q728 : (Jvm.Cond.methodLink "java/util/Arrays" (339 : Nat) ({ cls := "java/util/Arrays", name := "copyOfRangeByte", desc := "([BII)[B" } : Jvm.MethodName)) ∈ lw_all := lw_g (lw_at lw_m3 209 rfl) rfl
theorem q729 : (Jvm.Cond.static ({ cls := "java/util/Arrays", name := "copyOfRangeByte", desc := "([BII)[B" } : Jvm.MethodName)) ∈ lw_all := lw_g (lw_at lw_m3 210 rfl) rfl
theorem q730 : (Jvm.Cond.code ({ cls := "java/util/Arrays", name := "copyOfRangeByte", desc := "([BII)[B" } : Jvm.MethodName) prog_34_method_133_code (5 : Nat) (Option.some (Jvm.ClassFile.FieldType.array Jvm.ClassFile.FieldType.byte))) ∈ lw_all := lw_g (lw_at lw_m3 211 rfl) rfl
theorem q731 : (Jvm.Cond.methodLink "java/util/Arrays" (343 : Nat) ({ cls := "java/util/Arrays", name := "checkLength", desc := "(II)V" } : Jvm.MethodName)) ∈ lw_all := lw_g (lw_at lw_m3 212 rfl) rfl
theorem q732 : (Jvm.Cond.static ({ cls := "java/util/Arrays", name := "checkLength", desc := "(II)V" } : Jvm.MethodName)) ∈ lw_all := lw_g (lw_at lw_m3 213 rfl) rfl
theorem q733 : (Jvm.Cond.code ({ cls := "java/util/Arrays", name := "checkLength", desc := "(II)V" } : Jvm.MethodName) prog_34_method_131_code (2 : Nat) (Option.none : Option Jvm.ClassFile.FieldType)) ∈ lw_all := lw_g (lw_at lw_m3 214 rfl) rfl
theorem q734 : (Jvm.Cond.classLink "java/util/Arrays" (43 : Nat) "java/lang/IllegalArgumentException") ∈ lw_all := lw_g (lw_at lw_m3 215 rfl) rfl
theorem q735 : (Jvm.Cond.classLink "java/util/Arrays" (45 : Nat) "java/lang/StringBuilder") ∈ lw_all := lw_g (lw_at lw_m3 216 rfl) rfl
theorem q736 : (Jvm.Cond.methodLink "java/util/Arrays" (47 : Nat) ({ cls := "java/lang/StringBuilder", name := "<init>", desc := "()V" } : Jvm.MethodName)) ∈ lw_all := lw_g (lw_at lw_m3 217 rfl) rfl
theorem q737 : (Jvm.Cond.methodLink "java/util/Arrays" (54 : Nat) ({ cls := "java/lang/StringBuilder", name := "append", desc := "(I)Ljava/lang/StringBuilder;" } : Jvm.MethodName)) ∈ lw_all := lw_g (lw_at lw_m3 218 rfl) rfl
theorem q738 : (Jvm.Cond.stringRef "java/util/Arrays" (337 : Nat) " > ") ∈ lw_tbl := lw_at lw_m3 219 rfl
theorem q739 : (Jvm.Cond.methodLink "java/util/Arrays" (50 : Nat) ({ cls := "java/lang/StringBuilder", name := "append", desc := "(Ljava/lang/String;)Ljava/lang/StringBuilder;" } : Jvm.MethodName)) ∈ lw_all := lw_g (lw_at lw_m3 220 rfl) rfl
theorem q740 : (Jvm.Cond.methodLink "java/util/Arrays" (61 : Nat) ({ cls := "java/lang/StringBuilder", name := "toString", desc := "()Ljava/lang/String;" } : Jvm.MethodName)) ∈ lw_all := lw_g (lw_at lw_m3 221 rfl) rfl
theorem q741 : (Jvm.Cond.methodLink "java/util/Arrays" (65 : Nat) ({ cls := "java/lang/IllegalArgumentException", name := "<init>", desc := "(Ljava/lang/String;)V" } : Jvm.MethodName)) ∈ lw_all := lw_g (lw_at lw_m3 222 rfl) rfl
theorem q799 : (Jvm.Cond.static ({ cls := "java/util/Arrays", name := "copyOfRange", desc := "([III)[I" } : Jvm.MethodName)) ∈ lw_all := lw_g (lw_at lw_m4 40 rfl) rfl
theorem q800 : (Jvm.Cond.code ({ cls := "java/util/Arrays", name := "copyOfRange", desc := "([III)[I" } : Jvm.MethodName) prog_34_method_136_code (3 : Nat) (Option.some (Jvm.ClassFile.FieldType.array Jvm.ClassFile.FieldType.int))) ∈ lw_all := lw_g (lw_at lw_m4 41 rfl) rfl
theorem q801 : (Jvm.Cond.methodLink "java/util/Arrays" (351 : Nat) ({ cls := "java/util/Arrays", name := "copyOfRangeInt", desc := "([III)[I" } : Jvm.MethodName)) ∈ lw_all := lw_g (lw_at lw_m4 42 rfl) rfl
theorem q802 : (Jvm.Cond.static ({ cls := "java/util/Arrays", name := "copyOfRangeInt", desc := "([III)[I" } : Jvm.MethodName)) ∈ lw_all := lw_g (lw_at lw_m4 43 rfl) rfl
theorem q803 : (Jvm.Cond.code ({ cls := "java/util/Arrays", name := "copyOfRangeInt", desc := "([III)[I" } : Jvm.MethodName) prog_34_method_137_code (5 : Nat) (Option.some (Jvm.ClassFile.FieldType.array Jvm.ClassFile.FieldType.int))) ∈ lw_all := lw_g (lw_at lw_m4 44 rfl) rfl
theorem q1674 : (Jvm.Cond.static ({ cls := "java/util/Arrays", name := "sort", desc := "([D)V" } : Jvm.MethodName)) ∈ lw_all := lw_g (lw_at lw_m7 195 rfl) rfl
theorem q1675 : (Jvm.Cond.code ({ cls := "java/util/Arrays", name := "sort", desc := "([D)V" } : Jvm.MethodName) prog_34_method_14_code (1 : Nat) (Option.none : Option Jvm.ClassFile.FieldType)) ∈ lw_all := lw_g (lw_at lw_m7 196 rfl) rfl
theorem q1676 : (Jvm.Cond.methodLink "java/util/Arrays" (34 : Nat) ({ cls := "java/util/DualPivotQuicksort", name := "sort", desc := "([DIII)V" } : Jvm.MethodName)) ∈ lw_all := lw_g (lw_at lw_m7 197 rfl) rfl
/-! java/lang/IllegalArgumentException -/
set_option maxRecDepth 100000
def RJ20 : String := "java/lang/IllegalArgumentException"
def TJ20 : u_T := fun k => match k with
  | 0 => ("java/lang/Throwable", "cause", "Ljava/lang/Throwable;", false)
  | 1 => ("java/lang/Throwable", "stackTrace", "[Ljava/lang/StackTraceElement;", false)
  | 2 => ("java/lang/Throwable", "suppressedExceptions", "Ljava/util/List;", false)
  | 3 => ("java/lang/Throwable", "detailMessage", "Ljava/lang/String;", false)
  | 4 => ("java/lang/Throwable", "backtrace", "Ljava/lang/Object;", false)
  | _ => ("java/lang/Throwable", "depth", "I", false)
def tyJ20 : Nat → FieldType := fun k => match k with
  | 0 => .object "java/lang/Throwable"
  | 1 => .array (.object "java/lang/StackTraceElement")
  | 2 => .object "java/util/List"
  | 3 => .object "java/lang/String"
  | 4 => .object "java/lang/Object"
  | _ => .int
abbrev wsJ200 : List Cond := u_ws RJ20 TJ20 6
theorem nmJ20 : ∀ a, a < 6 → ∀ b, b < 6 → a ≠ b → (TJ20 a).2.1 ≠ (TJ20 b).2.1 := by decide +kernel
theorem tyJ20_ok : ∀ k, k < 6 → parseFieldDescriptor (TJ20 k).2.2.1 = some (tyJ20 k) := by decide +kernel
abbrev cJ20_init : ByteArray := prog_17_method_2_code
def yJ20_init : MethodName := ⟨RJ20, "<init>", "(Ljava/lang/String;)V"⟩
def dkwJ20_init_0 : List UInt8 := [42, 43, 183, 0, 7, 177]
abbrev dktJ20_init_0 : List UInt8 := dkwJ20_init_0 ++ []
theorem dksJ20_init_0 : cJ20_init.data.toList.drop 0 = dktJ20_init_0 := by decide +kernel
theorem dJ20_init_0 : decode cJ20_init 0 = .ok (.aload_n 0, 1) := dk_42 (dk_at dksJ20_init_0 0 rfl rfl)
theorem dJ20_init_1 : decode cJ20_init 1 = .ok (.aload_n 1, 1) := dk_43 (dk_at dksJ20_init_0 1 rfl rfl)
theorem dJ20_init_2 : decode cJ20_init 2 = .ok (.invokespecial 7, 3) := dk_183 0 7 (dk_at dksJ20_init_0 2 rfl rfl)
theorem dJ20_init_5 : decode cJ20_init 5 = .ok (.return_, 1) := dk_177 (dk_at dksJ20_init_0 5 rfl rfl)
abbrev cJ20_init_2 : ByteArray := prog_17_method_1_code
def yJ20_init_2 : MethodName := ⟨RJ20, "<init>", "()V"⟩
theorem dJ20_init_2_0 : decode cJ20_init_2 0 = .ok (.aload_n 0, 1) := by decide +kernel
theorem dJ20_init_2_1 : decode cJ20_init_2 1 = .ok (.invokespecial 1, 3) := by decide +kernel
theorem dJ20_init_2_4 : decode cJ20_init_2 4 = .ok (.return_, 1) := by decide +kernel
theorem q62 : (Jvm.Cond.initialized "java/lang/IllegalArgumentException") ∈ lw_all := lw_g (lw_at lw_m1 23 rfl) rfl
theorem q105 : (Jvm.Cond.selects "java/lang/IllegalArgumentException" ({ cls := "java/lang/Throwable", name := "fillInStackTrace", desc := "()Ljava/lang/Throwable;" } : Jvm.MethodName) ({ cls := "java/lang/Throwable", name := "fillInStackTrace", desc := "()Ljava/lang/Throwable;" } : Jvm.MethodName)) ∈ lw_all := lw_g (lw_at lw_m1 66 rfl) rfl
theorem q526 : (Jvm.Cond.instantiable "java/lang/IllegalArgumentException" (6 : Nat)) ∈ lw_all := lw_g (lw_at lw_m3 7 rfl) rfl
theorem q527 : (Jvm.Cond.castable "java/lang/IllegalArgumentException" "java/lang/IllegalArgumentException") ∈ lw_tbl := lw_at lw_m3 8 rfl
theorem q528 : (Jvm.Cond.selects "java/lang/IllegalArgumentException" ({ cls := "java/lang/Throwable", name := "fillInStackTrace", desc := "(I)Ljava/lang/Throwable;" } : Jvm.MethodName) ({ cls := "java/lang/Throwable", name := "fillInStackTrace", desc := "(I)Ljava/lang/Throwable;" } : Jvm.MethodName)) ∈ lw_all := lw_g (lw_at lw_m3 9 rfl) rfl
theorem q529 : (Jvm.Cond.lays "java/lang/IllegalArgumentException" "java/lang/Throwable" "cause" "Ljava/lang/Throwable;") ∈ lw_all := lw_g (lw_at lw_m3 10 rfl) rfl
theorem q530 : (Jvm.Cond.lays "java/lang/IllegalArgumentException" "java/lang/Throwable" "stackTrace" "[Ljava/lang/StackTraceElement;") ∈ lw_all := lw_g (lw_at lw_m3 11 rfl) rfl
theorem q531 : (Jvm.Cond.lays "java/lang/IllegalArgumentException" "java/lang/Throwable" "suppressedExceptions" "Ljava/util/List;") ∈ lw_all := lw_g (lw_at lw_m3 12 rfl) rfl
theorem q532 : (Jvm.Cond.lays "java/lang/IllegalArgumentException" "java/lang/Throwable" "detailMessage" "Ljava/lang/String;") ∈ lw_all := lw_g (lw_at lw_m3 13 rfl) rfl
theorem q533 : (Jvm.Cond.lays "java/lang/IllegalArgumentException" "java/lang/Throwable" "backtrace" "Ljava/lang/Object;") ∈ lw_all := lw_g (lw_at lw_m3 14 rfl) rfl
theorem q742 : (Jvm.Cond.instanceMethod ({ cls := "java/lang/IllegalArgumentException", name := "<init>", desc := "(Ljava/lang/String;)V" } : Jvm.MethodName)) ∈ lw_all := lw_g (lw_at lw_m3 223 rfl) rfl
theorem q743 : (Jvm.Cond.code ({ cls := "java/lang/IllegalArgumentException", name := "<init>", desc := "(Ljava/lang/String;)V" } : Jvm.MethodName) prog_17_method_2_code (2 : Nat) (Option.none : Option Jvm.ClassFile.FieldType)) ∈ lw_all := lw_g (lw_at lw_m3 224 rfl) rfl
theorem q744 : (Jvm.Cond.methodLink "java/lang/IllegalArgumentException" (7 : Nat) ({ cls := "java/lang/RuntimeException", name := "<init>", desc := "(Ljava/lang/String;)V" } : Jvm.MethodName)) ∈ lw_all := lw_g (lw_at lw_m3 225 rfl) rfl
theorem q745 : (Jvm.Cond.lays "java/lang/IllegalArgumentException" "java/lang/Throwable" "depth" "I") ∈ lw_all := lw_g (lw_at lw_m3 226 rfl) rfl
theorem q746 : (Jvm.Cond.superclass "java/lang/IllegalArgumentException" "java/lang/RuntimeException") ∈ lw_all := lw_g (lw_at lw_m3 227 rfl) rfl
theorem q1119 : (Jvm.Cond.declares ({ cls := "java/lang/IllegalArgumentException", name := "<init>", desc := "()V" } : Jvm.MethodName)) ∈ lw_tbl := lw_at lw_m5 120 rfl
theorem q1120 : (Jvm.Cond.declares ({ cls := "java/lang/IllegalArgumentException", name := "<init>", desc := "(Ljava/lang/String;)V" } : Jvm.MethodName)) ∈ lw_tbl := lw_at lw_m5 121 rfl
theorem q1235 : (Jvm.Cond.instanceMethod ({ cls := "java/lang/IllegalArgumentException", name := "<init>", desc := "()V" } : Jvm.MethodName)) ∈ lw_all := lw_g (lw_at lw_m5 236 rfl) rfl
theorem q1236 : (Jvm.Cond.code ({ cls := "java/lang/IllegalArgumentException", name := "<init>", desc := "()V" } : Jvm.MethodName) prog_17_method_1_code (1 : Nat) (Option.none : Option Jvm.ClassFile.FieldType)) ∈ lw_all := lw_g (lw_at lw_m5 237 rfl) rfl
theorem q1237 : (Jvm.Cond.methodLink "java/lang/IllegalArgumentException" (1 : Nat) ({ cls := "java/lang/RuntimeException", name := "<init>", desc := "()V" } : Jvm.MethodName)) ∈ lw_all := lw_g (lw_at lw_m5 238 rfl) rfl
theorem q1438 : (Jvm.Cond.selects "java/lang/IllegalArgumentException" ({ cls := "java/lang/Object", name := "equals", desc := "(Ljava/lang/Object;)Z" } : Jvm.MethodName) ({ cls := "java/lang/Object", name := "equals", desc := "(Ljava/lang/Object;)Z" } : Jvm.MethodName)) ∈ lw_all := lw_g (lw_at lw_m6 199 rfl) rfl
theorem in_J20 : ∀ w ∈ wsJ200, w ∈ lw_all := lw_in wsJ200 [529, 530, 531, 532, 533, 745] (by decide +kernel) (by decide +kernel)
/-! java/lang/AbstractStringBuilder -/
set_option maxRecDepth 100000
def RJ21 : String := "java/lang/AbstractStringBuilder"
abbrev cJ21_init : ByteArray := prog_3_method_2_code
def yJ21_init : MethodName := ⟨RJ21, "<init>", "(I)V"⟩
def dkwJ21_init_1 : List UInt8 := [167, 0, 16, 42, 27, 184, 0, 26, 181, 0, 15, 42, 4, 181, 0, 22, 177]
abbrev dktJ21_init_1 : List UInt8 := dkwJ21_init_1 ++ []
def dkwJ21_init_0 : List UInt8 := [42, 183, 0, 3, 178, 0, 18, 153, 0, 18, 42, 27, 188, 8, 181, 0, 15, 42, 3, 181, 0, 22]
abbrev dktJ21_init_0 : List UInt8 := dkwJ21_init_0 ++ dktJ21_init_1
theorem dksJ21_init_0 : cJ21_init.data.toList.drop 0 = dktJ21_init_0 := by decide +kernel
theorem dksJ21_init_1 : cJ21_init.data.toList.drop 22 = dktJ21_init_1 := dk_seg dksJ21_init_0 22 rfl rfl
theorem dJ21_init_0 : decode cJ21_init 0 = .ok (.aload_n 0, 1) := dk_42 (dk_at dksJ21_init_0 0 rfl rfl)
theorem dJ21_init_1 : decode cJ21_init 1 = .ok (.invokespecial 3, 3) := dk_183 0 3 (dk_at dksJ21_init_0 1 rfl rfl)
theorem dJ21_init_4 : decode cJ21_init 4 = .ok (.getstatic 18, 3) := dk_178 0 18 (dk_at dksJ21_init_0 4 rfl rfl)
theorem dJ21_init_7 : decode cJ21_init 7 = .ok (.ifCond .eq 18, 3) := dk_153 0 18 (dk_at dksJ21_init_0 7 rfl rfl)
theorem dJ21_init_10 : decode cJ21_init 10 = .ok (.aload_n 0, 1) := dk_42 (dk_at dksJ21_init_0 10 rfl rfl)
theorem dJ21_init_11 : decode cJ21_init 11 = .ok (.iload_n 1, 1) := dk_27 (dk_at dksJ21_init_0 11 rfl rfl)
theorem dJ21_init_12 : decode cJ21_init 12 = .ok (.newarray .byte, 2) := dk_188_8 (dk_at dksJ21_init_0 12 rfl rfl)
theorem dJ21_init_14 : decode cJ21_init 14 = .ok (.putfield 15, 3) := dk_181 0 15 (dk_at dksJ21_init_0 14 rfl rfl)
theorem dJ21_init_17 : decode cJ21_init 17 = .ok (.aload_n 0, 1) := dk_42 (dk_at dksJ21_init_0 17 rfl rfl)
theorem dJ21_init_18 : decode cJ21_init 18 = .ok (.iconst 0, 1) := dk_3 (dk_at dksJ21_init_0 18 rfl rfl)
theorem dJ21_init_19 : decode cJ21_init 19 = .ok (.putfield 22, 3) := dk_181 0 22 (dk_at dksJ21_init_0 19 rfl rfl)
theorem dJ21_init_22 : decode cJ21_init 22 = .ok (.goto 16, 3) := dk_167 0 16 (dk_at dksJ21_init_1 0 rfl rfl)
theorem dJ21_init_25 : decode cJ21_init 25 = .ok (.aload_n 0, 1) := dk_42 (dk_at dksJ21_init_1 3 rfl rfl)
theorem dJ21_init_26 : decode cJ21_init 26 = .ok (.iload_n 1, 1) := dk_27 (dk_at dksJ21_init_1 4 rfl rfl)
theorem dJ21_init_27 : decode cJ21_init 27 = .ok (.invokestatic 26, 3) := dk_184 0 26 (dk_at dksJ21_init_1 5 rfl rfl)
theorem dJ21_init_30 : decode cJ21_init 30 = .ok (.putfield 15, 3) := dk_181 0 15 (dk_at dksJ21_init_1 8 rfl rfl)
theorem dJ21_init_33 : decode cJ21_init 33 = .ok (.aload_n 0, 1) := dk_42 (dk_at dksJ21_init_1 11 rfl rfl)
theorem dJ21_init_34 : decode cJ21_init 34 = .ok (.iconst 1, 1) := dk_4 (dk_at dksJ21_init_1 12 rfl rfl)
theorem dJ21_init_35 : decode cJ21_init 35 = .ok (.putfield 22, 3) := dk_181 0 22 (dk_at dksJ21_init_1 13 rfl rfl)
theorem dJ21_init_38 : decode cJ21_init 38 = .ok (.return_, 1) := dk_177 (dk_at dksJ21_init_1 16 rfl rfl)
abbrev cJ21_append : ByteArray := prog_3_method_22_code
def yJ21_append : MethodName := ⟨RJ21, "append", "(Ljava/lang/String;)Ljava/lang/AbstractStringBuilder;"⟩
def dkwJ21_append_1 : List UInt8 := [42, 42, 180, 0, 79, 43, 182, 0, 208, 42, 89, 180, 0, 79, 28, 96, 181, 0, 79, 42, 176]
abbrev dktJ21_append_1 : List UInt8 := dkwJ21_append_1 ++ []
def dkwJ21_append_0 : List UInt8 := [43, 199, 0, 8, 42, 182, 0, 204, 176, 43, 182, 0, 32, 61, 42, 42, 180, 0, 79, 28, 96, 182, 0, 100]
abbrev dktJ21_append_0 : List UInt8 := dkwJ21_append_0 ++ dktJ21_append_1
theorem dksJ21_append_0 : cJ21_append.data.toList.drop 0 = dktJ21_append_0 := by decide +kernel
theorem dksJ21_append_1 : cJ21_append.data.toList.drop 24 = dktJ21_append_1 := dk_seg dksJ21_append_0 24 rfl rfl
theorem dJ21_append_0 : decode cJ21_append 0 = .ok (.aload_n 1, 1) := dk_43 (dk_at dksJ21_append_0 0 rfl rfl)
theorem dJ21_append_1 : decode cJ21_append 1 = .ok (.ifnonnull 8, 3) := dk_199 0 8 (dk_at dksJ21_append_0 1 rfl rfl)
theorem dJ21_append_4 : decode cJ21_append 4 = .ok (.aload_n 0, 1) := dk_42 (dk_at dksJ21_append_0 4 rfl rfl)
theorem dJ21_append_5 : decode cJ21_append 5 = .ok (.invokevirtual 204, 3) := dk_182 0 204 (dk_at dksJ21_append_0 5 rfl rfl)
theorem dJ21_append_8 : decode cJ21_append 8 = .ok (.areturn, 1) := dk_176 (dk_at dksJ21_append_0 8 rfl rfl)
theorem dJ21_append_9 : decode cJ21_append 9 = .ok (.aload_n 1, 1) := dk_43 (dk_at dksJ21_append_0 9 rfl rfl)
theorem dJ21_append_10 : decode cJ21_append 10 = .ok (.invokevirtual 32, 3) := dk_182 0 32 (dk_at dksJ21_append_0 10 rfl rfl)
theorem dJ21_append_13 : decode cJ21_append 13 = .ok (.istore_n 2, 1) := dk_61 (dk_at dksJ21_append_0 13 rfl rfl)
theorem dJ21_append_14 : decode cJ21_append 14 = .ok (.aload_n 0, 1) := dk_42 (dk_at dksJ21_append_0 14 rfl rfl)
theorem dJ21_append_15 : decode cJ21_append 15 = .ok (.aload_n 0, 1) := dk_42 (dk_at dksJ21_append_0 15 rfl rfl)
theorem dJ21_append_16 : decode cJ21_append 16 = .ok (.getfield 79, 3) := dk_180 0 79 (dk_at dksJ21_append_0 16 rfl rfl)
theorem dJ21_append_19 : decode cJ21_append 19 = .ok (.iload_n 2, 1) := dk_28 (dk_at dksJ21_append_0 19 rfl rfl)
theorem dJ21_append_20 : decode cJ21_append 20 = .ok (.iadd, 1) := dk_96 (dk_at dksJ21_append_0 20 rfl rfl)
theorem dJ21_append_21 : decode cJ21_append 21 = .ok (.invokevirtual 100, 3) := dk_182 0 100 (dk_at dksJ21_append_0 21 rfl rfl)
theorem dJ21_append_24 : decode cJ21_append 24 = .ok (.aload_n 0, 1) := dk_42 (dk_at dksJ21_append_1 0 rfl rfl)
theorem dJ21_append_25 : decode cJ21_append 25 = .ok (.aload_n 0, 1) := dk_42 (dk_at dksJ21_append_1 1 rfl rfl)
theorem dJ21_append_26 : decode cJ21_append 26 = .ok (.getfield 79, 3) := dk_180 0 79 (dk_at dksJ21_append_1 2 rfl rfl)
theorem dJ21_append_29 : decode cJ21_append 29 = .ok (.aload_n 1, 1) := dk_43 (dk_at dksJ21_append_1 5 rfl rfl)
theorem dJ21_append_30 : decode cJ21_append 30 = .ok (.invokevirtual 208, 3) := dk_182 0 208 (dk_at dksJ21_append_1 6 rfl rfl)
theorem dJ21_append_33 : decode cJ21_append 33 = .ok (.aload_n 0, 1) := dk_42 (dk_at dksJ21_append_1 9 rfl rfl)
theorem dJ21_append_34 : decode cJ21_append 34 = .ok (.dup, 1) := dk_89 (dk_at dksJ21_append_1 10 rfl rfl)
theorem dJ21_append_35 : decode cJ21_append 35 = .ok (.getfield 79, 3) := dk_180 0 79 (dk_at dksJ21_append_1 11 rfl rfl)
theorem dJ21_append_38 : decode cJ21_append 38 = .ok (.iload_n 2, 1) := dk_28 (dk_at dksJ21_append_1 14 rfl rfl)
theorem dJ21_append_39 : decode cJ21_append 39 = .ok (.iadd, 1) := dk_96 (dk_at dksJ21_append_1 15 rfl rfl)
theorem dJ21_append_40 : decode cJ21_append 40 = .ok (.putfield 79, 3) := dk_181 0 79 (dk_at dksJ21_append_1 16 rfl rfl)
theorem dJ21_append_43 : decode cJ21_append 43 = .ok (.aload_n 0, 1) := dk_42 (dk_at dksJ21_append_1 19 rfl rfl)
theorem dJ21_append_44 : decode cJ21_append 44 = .ok (.areturn, 1) := dk_176 (dk_at dksJ21_append_1 20 rfl rfl)
abbrev cJ21_appendNull : ByteArray := prog_3_method_26_code
def yJ21_appendNull : MethodName := ⟨RJ21, "appendNull", "()Ljava/lang/AbstractStringBuilder;"⟩
def dkwJ21_appendNull_3 : List UInt8 := [184, 0, 226, 60, 42, 27, 181, 0, 79, 42, 176]
abbrev dktJ21_appendNull_3 : List UInt8 := dkwJ21_appendNull_3 ++ []
def dkwJ21_appendNull_2 : List UInt8 := [16, 108, 84, 44, 27, 132, 1, 1, 16, 108, 84, 167, 0, 17, 44, 27, 16, 110, 16, 117, 16, 108, 16, 108]
abbrev dktJ21_appendNull_2 : List UInt8 := dkwJ21_appendNull_2 ++ dktJ21_appendNull_3
def dkwJ21_appendNull_1 : List UInt8 := [153, 0, 38, 44, 27, 132, 1, 1, 16, 110, 84, 44, 27, 132, 1, 1, 16, 117, 84, 44, 27, 132, 1, 1]
abbrev dktJ21_appendNull_1 : List UInt8 := dkwJ21_appendNull_1 ++ dktJ21_appendNull_2
def dkwJ21_appendNull_0 : List UInt8 := [42, 42, 180, 0, 79, 7, 96, 182, 0, 100, 42, 180, 0, 79, 60, 42, 180, 0, 15, 77, 42, 182, 0, 83]
abbrev dktJ21_appendNull_0 : List UInt8 := dkwJ21_appendNull_0 ++ dktJ21_appendNull_1
theorem dksJ21_appendNull_0 : cJ21_appendNull.data.toList.drop 0 = dktJ21_appendNull_0 := by decide +kernel
theorem dksJ21_appendNull_1 : cJ21_appendNull.data.toList.drop 24 = dktJ21_appendNull_1 := dk_seg dksJ21_appendNull_0 24 rfl rfl
theorem dksJ21_appendNull_2 : cJ21_appendNull.data.toList.drop 48 = dktJ21_appendNull_2 := dk_seg dksJ21_appendNull_1 24 rfl rfl
theorem dksJ21_appendNull_3 : cJ21_appendNull.data.toList.drop 72 = dktJ21_appendNull_3 := dk_seg dksJ21_appendNull_2 24 rfl rfl
theorem dJ21_appendNull_0 : decode cJ21_appendNull 0 = .ok (.aload_n 0, 1) := dk_42 (dk_at dksJ21_appendNull_0 0 rfl rfl)
theorem dJ21_appendNull_1 : decode cJ21_appendNull 1 = .ok (.aload_n 0, 1) := dk_42 (dk_at dksJ21_appendNull_0 1 rfl rfl)
theorem dJ21_appendNull_2 : decode cJ21_appendNull 2 = .ok (.getfield 79, 3) := dk_180 0 79 (dk_at dksJ21_appendNull_0 2 rfl rfl)
theorem dJ21_appendNull_5 : decode cJ21_appendNull 5 = .ok (.iconst 4, 1) := dk_7 (dk_at dksJ21_appendNull_0 5 rfl rfl)
theorem dJ21_appendNull_6 : decode cJ21_appendNull 6 = .ok (.iadd, 1) := dk_96 (dk_at dksJ21_appendNull_0 6 rfl rfl)
theorem dJ21_appendNull_7 : decode cJ21_appendNull 7 = .ok (.invokevirtual 100, 3) := dk_182 0 100 (dk_at dksJ21_appendNull_0 7 rfl rfl)
theorem dJ21_appendNull_10 : decode cJ21_appendNull 10 = .ok (.aload_n 0, 1) := dk_42 (dk_at dksJ21_appendNull_0 10 rfl rfl)
theorem dJ21_appendNull_11 : decode cJ21_appendNull 11 = .ok (.getfield 79, 3) := dk_180 0 79 (dk_at dksJ21_appendNull_0 11 rfl rfl)
theorem dJ21_appendNull_14 : decode cJ21_appendNull 14 = .ok (.istore_n 1, 1) := dk_60 (dk_at dksJ21_appendNull_0 14 rfl rfl)
theorem dJ21_appendNull_15 : decode cJ21_appendNull 15 = .ok (.aload_n 0, 1) := dk_42 (dk_at dksJ21_appendNull_0 15 rfl rfl)
theorem dJ21_appendNull_16 : decode cJ21_appendNull 16 = .ok (.getfield 15, 3) := dk_180 0 15 (dk_at dksJ21_appendNull_0 16 rfl rfl)
theorem dJ21_appendNull_19 : decode cJ21_appendNull 19 = .ok (.astore_n 2, 1) := dk_77 (dk_at dksJ21_appendNull_0 19 rfl rfl)
theorem dJ21_appendNull_20 : decode cJ21_appendNull 20 = .ok (.aload_n 0, 1) := dk_42 (dk_at dksJ21_appendNull_0 20 rfl rfl)
theorem dJ21_appendNull_21 : decode cJ21_appendNull 21 = .ok (.invokevirtual 83, 3) := dk_182 0 83 (dk_at dksJ21_appendNull_0 21 rfl rfl)
theorem dJ21_appendNull_24 : decode cJ21_appendNull 24 = .ok (.ifCond .eq 38, 3) := dk_153 0 38 (dk_at dksJ21_appendNull_1 0 rfl rfl)
theorem dJ21_appendNull_27 : decode cJ21_appendNull 27 = .ok (.aload_n 2, 1) := dk_44 (dk_at dksJ21_appendNull_1 3 rfl rfl)
theorem dJ21_appendNull_28 : decode cJ21_appendNull 28 = .ok (.iload_n 1, 1) := dk_27 (dk_at dksJ21_appendNull_1 4 rfl rfl)
theorem dJ21_appendNull_29 : decode cJ21_appendNull 29 = .ok (.iinc 1 1, 3) := dk_132 1 1 (dk_at dksJ21_appendNull_1 5 rfl rfl)
theorem dJ21_appendNull_32 : decode cJ21_appendNull 32 = .ok (.bipush 110, 2) := dk_16 110 (dk_at dksJ21_appendNull_1 8 rfl rfl)
theorem dJ21_appendNull_34 : decode cJ21_appendNull 34 = .ok (.bastore, 1) := dk_84 (dk_at dksJ21_appendNull_1 10 rfl rfl)
theorem dJ21_appendNull_35 : decode cJ21_appendNull 35 = .ok (.aload_n 2, 1) := dk_44 (dk_at dksJ21_appendNull_1 11 rfl rfl)
theorem dJ21_appendNull_36 : decode cJ21_appendNull 36 = .ok (.iload_n 1, 1) := dk_27 (dk_at dksJ21_appendNull_1 12 rfl rfl)
theorem dJ21_appendNull_37 : decode cJ21_appendNull 37 = .ok (.iinc 1 1, 3) := dk_132 1 1 (dk_at dksJ21_appendNull_1 13 rfl rfl)
theorem dJ21_appendNull_40 : decode cJ21_appendNull 40 = .ok (.bipush 117, 2) := dk_16 117 (dk_at dksJ21_appendNull_1 16 rfl rfl)
theorem dJ21_appendNull_42 : decode cJ21_appendNull 42 = .ok (.bastore, 1) := dk_84 (dk_at dksJ21_appendNull_1 18 rfl rfl)
theorem dJ21_appendNull_43 : decode cJ21_appendNull 43 = .ok (.aload_n 2, 1) := dk_44 (dk_at dksJ21_appendNull_1 19 rfl rfl)
theorem dJ21_appendNull_44 : decode cJ21_appendNull 44 = .ok (.iload_n 1, 1) := dk_27 (dk_at dksJ21_appendNull_1 20 rfl rfl)
theorem dJ21_appendNull_45 : decode cJ21_appendNull 45 = .ok (.iinc 1 1, 3) := dk_132 1 1 (dk_at dksJ21_appendNull_1 21 rfl rfl)
theorem dJ21_appendNull_48 : decode cJ21_appendNull 48 = .ok (.bipush 108, 2) := dk_16 108 (dk_at dksJ21_appendNull_2 0 rfl rfl)
theorem dJ21_appendNull_50 : decode cJ21_appendNull 50 = .ok (.bastore, 1) := dk_84 (dk_at dksJ21_appendNull_2 2 rfl rfl)
theorem dJ21_appendNull_51 : decode cJ21_appendNull 51 = .ok (.aload_n 2, 1) := dk_44 (dk_at dksJ21_appendNull_2 3 rfl rfl)
theorem dJ21_appendNull_52 : decode cJ21_appendNull 52 = .ok (.iload_n 1, 1) := dk_27 (dk_at dksJ21_appendNull_2 4 rfl rfl)
theorem dJ21_appendNull_53 : decode cJ21_appendNull 53 = .ok (.iinc 1 1, 3) := dk_132 1 1 (dk_at dksJ21_appendNull_2 5 rfl rfl)
theorem dJ21_appendNull_56 : decode cJ21_appendNull 56 = .ok (.bipush 108, 2) := dk_16 108 (dk_at dksJ21_appendNull_2 8 rfl rfl)
theorem dJ21_appendNull_58 : decode cJ21_appendNull 58 = .ok (.bastore, 1) := dk_84 (dk_at dksJ21_appendNull_2 10 rfl rfl)
theorem dJ21_appendNull_59 : decode cJ21_appendNull 59 = .ok (.goto 17, 3) := dk_167 0 17 (dk_at dksJ21_appendNull_2 11 rfl rfl)
theorem dJ21_appendNull_62 : decode cJ21_appendNull 62 = .ok (.aload_n 2, 1) := dk_44 (dk_at dksJ21_appendNull_2 14 rfl rfl)
theorem dJ21_appendNull_63 : decode cJ21_appendNull 63 = .ok (.iload_n 1, 1) := dk_27 (dk_at dksJ21_appendNull_2 15 rfl rfl)
theorem dJ21_appendNull_64 : decode cJ21_appendNull 64 = .ok (.bipush 110, 2) := dk_16 110 (dk_at dksJ21_appendNull_2 16 rfl rfl)
theorem dJ21_appendNull_66 : decode cJ21_appendNull 66 = .ok (.bipush 117, 2) := dk_16 117 (dk_at dksJ21_appendNull_2 18 rfl rfl)
theorem dJ21_appendNull_68 : decode cJ21_appendNull 68 = .ok (.bipush 108, 2) := dk_16 108 (dk_at dksJ21_appendNull_2 20 rfl rfl)
theorem dJ21_appendNull_70 : decode cJ21_appendNull 70 = .ok (.bipush 108, 2) := dk_16 108 (dk_at dksJ21_appendNull_2 22 rfl rfl)
theorem dJ21_appendNull_72 : decode cJ21_appendNull 72 = .ok (.invokestatic 226, 3) := dk_184 0 226 (dk_at dksJ21_appendNull_3 0 rfl rfl)
theorem dJ21_appendNull_75 : decode cJ21_appendNull 75 = .ok (.istore_n 1, 1) := dk_60 (dk_at dksJ21_appendNull_3 3 rfl rfl)
theorem dJ21_appendNull_76 : decode cJ21_appendNull 76 = .ok (.aload_n 0, 1) := dk_42 (dk_at dksJ21_appendNull_3 4 rfl rfl)
theorem dJ21_appendNull_77 : decode cJ21_appendNull 77 = .ok (.iload_n 1, 1) := dk_27 (dk_at dksJ21_appendNull_3 5 rfl rfl)
theorem dJ21_appendNull_78 : decode cJ21_appendNull 78 = .ok (.putfield 79, 3) := dk_181 0 79 (dk_at dksJ21_appendNull_3 6 rfl rfl)
theorem dJ21_appendNull_81 : decode cJ21_appendNull 81 = .ok (.aload_n 0, 1) := dk_42 (dk_at dksJ21_appendNull_3 9 rfl rfl)
theorem dJ21_appendNull_82 : decode cJ21_appendNull 82 = .ok (.areturn, 1) := dk_176 (dk_at dksJ21_appendNull_3 10 rfl rfl)
abbrev cJ21_ensureCapacityInternal : ByteArray := prog_3_method_9_code
def yJ21_ensureCapacityInternal : MethodName := ⟨RJ21, "ensureCapacityInternal", "(I)V"⟩
def dkwJ21_ensureCapacityInternal_1 : List UInt8 := [182, 0, 104, 42, 180, 0, 22, 120, 184, 0, 108, 181, 0, 15, 177]
abbrev dktJ21_ensureCapacityInternal_1 : List UInt8 := dkwJ21_ensureCapacityInternal_1 ++ []
def dkwJ21_ensureCapacityInternal_0 : List UInt8 := [42, 180, 0, 15, 190, 42, 180, 0, 22, 122, 61, 27, 28, 100, 158, 0, 24, 42, 42, 180, 0, 15, 42, 27]
abbrev dktJ21_ensureCapacityInternal_0 : List UInt8 := dkwJ21_ensureCapacityInternal_0 ++ dktJ21_ensureCapacityInternal_1
theorem dksJ21_ensureCapacityInternal_0 : cJ21_ensureCapacityInternal.data.toList.drop 0 = dktJ21_ensureCapacityInternal_0 := by decide +kernel
theorem dksJ21_ensureCapacityInternal_1 : cJ21_ensureCapacityInternal.data.toList.drop 24 = dktJ21_ensureCapacityInternal_1 := dk_seg dksJ21_ensureCapacityInternal_0 24 rfl rfl
theorem dJ21_ensureCapacityInternal_0 : decode cJ21_ensureCapacityInternal 0 = .ok (.aload_n 0, 1) := dk_42 (dk_at dksJ21_ensureCapacityInternal_0 0 rfl rfl)
theorem dJ21_ensureCapacityInternal_1 : decode cJ21_ensureCapacityInternal 1 = .ok (.getfield 15, 3) := dk_180 0 15 (dk_at dksJ21_ensureCapacityInternal_0 1 rfl rfl)
theorem dJ21_ensureCapacityInternal_4 : decode cJ21_ensureCapacityInternal 4 = .ok (.arraylength, 1) := dk_190 (dk_at dksJ21_ensureCapacityInternal_0 4 rfl rfl)
theorem dJ21_ensureCapacityInternal_5 : decode cJ21_ensureCapacityInternal 5 = .ok (.aload_n 0, 1) := dk_42 (dk_at dksJ21_ensureCapacityInternal_0 5 rfl rfl)
theorem dJ21_ensureCapacityInternal_6 : decode cJ21_ensureCapacityInternal 6 = .ok (.getfield 22, 3) := dk_180 0 22 (dk_at dksJ21_ensureCapacityInternal_0 6 rfl rfl)
theorem dJ21_ensureCapacityInternal_9 : decode cJ21_ensureCapacityInternal 9 = .ok (.ishr, 1) := dk_122 (dk_at dksJ21_ensureCapacityInternal_0 9 rfl rfl)
theorem dJ21_ensureCapacityInternal_10 : decode cJ21_ensureCapacityInternal 10 = .ok (.istore_n 2, 1) := dk_61 (dk_at dksJ21_ensureCapacityInternal_0 10 rfl rfl)
theorem dJ21_ensureCapacityInternal_11 : decode cJ21_ensureCapacityInternal 11 = .ok (.iload_n 1, 1) := dk_27 (dk_at dksJ21_ensureCapacityInternal_0 11 rfl rfl)
theorem dJ21_ensureCapacityInternal_12 : decode cJ21_ensureCapacityInternal 12 = .ok (.iload_n 2, 1) := dk_28 (dk_at dksJ21_ensureCapacityInternal_0 12 rfl rfl)
theorem dJ21_ensureCapacityInternal_13 : decode cJ21_ensureCapacityInternal 13 = .ok (.isub, 1) := dk_100 (dk_at dksJ21_ensureCapacityInternal_0 13 rfl rfl)
theorem dJ21_ensureCapacityInternal_14 : decode cJ21_ensureCapacityInternal 14 = .ok (.ifCond .le 24, 3) := dk_158 0 24 (dk_at dksJ21_ensureCapacityInternal_0 14 rfl rfl)
theorem dJ21_ensureCapacityInternal_17 : decode cJ21_ensureCapacityInternal 17 = .ok (.aload_n 0, 1) := dk_42 (dk_at dksJ21_ensureCapacityInternal_0 17 rfl rfl)
theorem dJ21_ensureCapacityInternal_18 : decode cJ21_ensureCapacityInternal 18 = .ok (.aload_n 0, 1) := dk_42 (dk_at dksJ21_ensureCapacityInternal_0 18 rfl rfl)
theorem dJ21_ensureCapacityInternal_19 : decode cJ21_ensureCapacityInternal 19 = .ok (.getfield 15, 3) := dk_180 0 15 (dk_at dksJ21_ensureCapacityInternal_0 19 rfl rfl)
theorem dJ21_ensureCapacityInternal_22 : decode cJ21_ensureCapacityInternal 22 = .ok (.aload_n 0, 1) := dk_42 (dk_at dksJ21_ensureCapacityInternal_0 22 rfl rfl)
theorem dJ21_ensureCapacityInternal_23 : decode cJ21_ensureCapacityInternal 23 = .ok (.iload_n 1, 1) := dk_27 (dk_at dksJ21_ensureCapacityInternal_0 23 rfl rfl)
theorem dJ21_ensureCapacityInternal_24 : decode cJ21_ensureCapacityInternal 24 = .ok (.invokevirtual 104, 3) := dk_182 0 104 (dk_at dksJ21_ensureCapacityInternal_1 0 rfl rfl)
theorem dJ21_ensureCapacityInternal_27 : decode cJ21_ensureCapacityInternal 27 = .ok (.aload_n 0, 1) := dk_42 (dk_at dksJ21_ensureCapacityInternal_1 3 rfl rfl)
theorem dJ21_ensureCapacityInternal_28 : decode cJ21_ensureCapacityInternal 28 = .ok (.getfield 22, 3) := dk_180 0 22 (dk_at dksJ21_ensureCapacityInternal_1 4 rfl rfl)
theorem dJ21_ensureCapacityInternal_31 : decode cJ21_ensureCapacityInternal 31 = .ok (.ishl, 1) := dk_120 (dk_at dksJ21_ensureCapacityInternal_1 7 rfl rfl)
theorem dJ21_ensureCapacityInternal_32 : decode cJ21_ensureCapacityInternal 32 = .ok (.invokestatic 108, 3) := dk_184 0 108 (dk_at dksJ21_ensureCapacityInternal_1 8 rfl rfl)
theorem dJ21_ensureCapacityInternal_35 : decode cJ21_ensureCapacityInternal 35 = .ok (.putfield 15, 3) := dk_181 0 15 (dk_at dksJ21_ensureCapacityInternal_1 11 rfl rfl)
theorem dJ21_ensureCapacityInternal_38 : decode cJ21_ensureCapacityInternal 38 = .ok (.return_, 1) := dk_177 (dk_at dksJ21_ensureCapacityInternal_1 14 rfl rfl)
abbrev cJ21_newCapacity : ByteArray := prog_3_method_10_code
def yJ21_newCapacity : MethodName := ⟨RJ21, "newCapacity", "(I)I"⟩
def dkwJ21_newCapacity_2 : List UInt8 := [183, 0, 124, 191, 21, 5, 42, 180, 0, 22, 122, 172]
abbrev dktJ21_newCapacity_2 : List UInt8 := dkwJ21_newCapacity_2 ++ []
def dkwJ21_newCapacity_1 : List UInt8 := [180, 0, 22, 120, 96, 184, 0, 114, 54, 5, 21, 5, 18, 39, 160, 0, 13, 187, 0, 120, 89, 18, 122]
abbrev dktJ21_newCapacity_1 : List UInt8 := dkwJ21_newCapacity_1 ++ dktJ21_newCapacity_2
def dkwJ21_newCapacity_0 : List UInt8 := [42, 180, 0, 15, 190, 61, 27, 42, 180, 0, 22, 120, 62, 29, 28, 100, 54, 4, 28, 21, 4, 28, 5, 42]
abbrev dktJ21_newCapacity_0 : List UInt8 := dkwJ21_newCapacity_0 ++ dktJ21_newCapacity_1
theorem dksJ21_newCapacity_0 : cJ21_newCapacity.data.toList.drop 0 = dktJ21_newCapacity_0 := by decide +kernel
theorem dksJ21_newCapacity_1 : cJ21_newCapacity.data.toList.drop 24 = dktJ21_newCapacity_1 := dk_seg dksJ21_newCapacity_0 24 rfl rfl
theorem dksJ21_newCapacity_2 : cJ21_newCapacity.data.toList.drop 47 = dktJ21_newCapacity_2 := dk_seg dksJ21_newCapacity_1 23 rfl rfl
theorem dJ21_newCapacity_0 : decode cJ21_newCapacity 0 = .ok (.aload_n 0, 1) := dk_42 (dk_at dksJ21_newCapacity_0 0 rfl rfl)
theorem dJ21_newCapacity_1 : decode cJ21_newCapacity 1 = .ok (.getfield 15, 3) := dk_180 0 15 (dk_at dksJ21_newCapacity_0 1 rfl rfl)
theorem dJ21_newCapacity_4 : decode cJ21_newCapacity 4 = .ok (.arraylength, 1) := dk_190 (dk_at dksJ21_newCapacity_0 4 rfl rfl)
theorem dJ21_newCapacity_5 : decode cJ21_newCapacity 5 = .ok (.istore_n 2, 1) := dk_61 (dk_at dksJ21_newCapacity_0 5 rfl rfl)
theorem dJ21_newCapacity_6 : decode cJ21_newCapacity 6 = .ok (.iload_n 1, 1) := dk_27 (dk_at dksJ21_newCapacity_0 6 rfl rfl)
theorem dJ21_newCapacity_7 : decode cJ21_newCapacity 7 = .ok (.aload_n 0, 1) := dk_42 (dk_at dksJ21_newCapacity_0 7 rfl rfl)
theorem dJ21_newCapacity_8 : decode cJ21_newCapacity 8 = .ok (.getfield 22, 3) := dk_180 0 22 (dk_at dksJ21_newCapacity_0 8 rfl rfl)
theorem dJ21_newCapacity_11 : decode cJ21_newCapacity 11 = .ok (.ishl, 1) := dk_120 (dk_at dksJ21_newCapacity_0 11 rfl rfl)
theorem dJ21_newCapacity_12 : decode cJ21_newCapacity 12 = .ok (.istore_n 3, 1) := dk_62 (dk_at dksJ21_newCapacity_0 12 rfl rfl)
theorem dJ21_newCapacity_13 : decode cJ21_newCapacity 13 = .ok (.iload_n 3, 1) := dk_29 (dk_at dksJ21_newCapacity_0 13 rfl rfl)
theorem dJ21_newCapacity_14 : decode cJ21_newCapacity 14 = .ok (.iload_n 2, 1) := dk_28 (dk_at dksJ21_newCapacity_0 14 rfl rfl)
theorem dJ21_newCapacity_15 : decode cJ21_newCapacity 15 = .ok (.isub, 1) := dk_100 (dk_at dksJ21_newCapacity_0 15 rfl rfl)
theorem dJ21_newCapacity_16 : decode cJ21_newCapacity 16 = .ok (.istore 4, 2) := dk_54 4 (dk_at dksJ21_newCapacity_0 16 rfl rfl)
theorem dJ21_newCapacity_18 : decode cJ21_newCapacity 18 = .ok (.iload_n 2, 1) := dk_28 (dk_at dksJ21_newCapacity_0 18 rfl rfl)
theorem dJ21_newCapacity_19 : decode cJ21_newCapacity 19 = .ok (.iload 4, 2) := dk_21 4 (dk_at dksJ21_newCapacity_0 19 rfl rfl)
theorem dJ21_newCapacity_21 : decode cJ21_newCapacity 21 = .ok (.iload_n 2, 1) := dk_28 (dk_at dksJ21_newCapacity_0 21 rfl rfl)
theorem dJ21_newCapacity_22 : decode cJ21_newCapacity 22 = .ok (.iconst 2, 1) := dk_5 (dk_at dksJ21_newCapacity_0 22 rfl rfl)
theorem dJ21_newCapacity_23 : decode cJ21_newCapacity 23 = .ok (.aload_n 0, 1) := dk_42 (dk_at dksJ21_newCapacity_0 23 rfl rfl)
theorem dJ21_newCapacity_24 : decode cJ21_newCapacity 24 = .ok (.getfield 22, 3) := dk_180 0 22 (dk_at dksJ21_newCapacity_1 0 rfl rfl)
theorem dJ21_newCapacity_27 : decode cJ21_newCapacity 27 = .ok (.ishl, 1) := dk_120 (dk_at dksJ21_newCapacity_1 3 rfl rfl)
theorem dJ21_newCapacity_28 : decode cJ21_newCapacity 28 = .ok (.iadd, 1) := dk_96 (dk_at dksJ21_newCapacity_1 4 rfl rfl)
theorem dJ21_newCapacity_29 : decode cJ21_newCapacity 29 = .ok (.invokestatic 114, 3) := dk_184 0 114 (dk_at dksJ21_newCapacity_1 5 rfl rfl)
theorem dJ21_newCapacity_32 : decode cJ21_newCapacity 32 = .ok (.istore 5, 2) := dk_54 5 (dk_at dksJ21_newCapacity_1 8 rfl rfl)
theorem dJ21_newCapacity_34 : decode cJ21_newCapacity 34 = .ok (.iload 5, 2) := dk_21 5 (dk_at dksJ21_newCapacity_1 10 rfl rfl)
theorem dJ21_newCapacity_36 : decode cJ21_newCapacity 36 = .ok (.ldc 39, 2) := dk_18 39 (dk_at dksJ21_newCapacity_1 12 rfl rfl)
theorem dJ21_newCapacity_38 : decode cJ21_newCapacity 38 = .ok (.if_icmp .ne 13, 3) := dk_160 0 13 (dk_at dksJ21_newCapacity_1 14 rfl rfl)
theorem dJ21_newCapacity_41 : decode cJ21_newCapacity 41 = .ok (.new 120, 3) := dk_187 0 120 (dk_at dksJ21_newCapacity_1 17 rfl rfl)
theorem dJ21_newCapacity_44 : decode cJ21_newCapacity 44 = .ok (.dup, 1) := dk_89 (dk_at dksJ21_newCapacity_1 20 rfl rfl)
theorem dJ21_newCapacity_45 : decode cJ21_newCapacity 45 = .ok (.ldc 122, 2) := dk_18 122 (dk_at dksJ21_newCapacity_1 21 rfl rfl)
theorem dJ21_newCapacity_47 : decode cJ21_newCapacity 47 = .ok (.invokespecial 124, 3) := dk_183 0 124 (dk_at dksJ21_newCapacity_2 0 rfl rfl)
theorem dJ21_newCapacity_50 : decode cJ21_newCapacity 50 = .ok (.athrow, 1) := dk_191 (dk_at dksJ21_newCapacity_2 3 rfl rfl)
theorem dJ21_newCapacity_51 : decode cJ21_newCapacity 51 = .ok (.iload 5, 2) := dk_21 5 (dk_at dksJ21_newCapacity_2 4 rfl rfl)
theorem dJ21_newCapacity_53 : decode cJ21_newCapacity 53 = .ok (.aload_n 0, 1) := dk_42 (dk_at dksJ21_newCapacity_2 6 rfl rfl)
theorem dJ21_newCapacity_54 : decode cJ21_newCapacity 54 = .ok (.getfield 22, 3) := dk_180 0 22 (dk_at dksJ21_newCapacity_2 7 rfl rfl)
theorem dJ21_newCapacity_57 : decode cJ21_newCapacity 57 = .ok (.ishr, 1) := dk_122 (dk_at dksJ21_newCapacity_2 10 rfl rfl)
theorem dJ21_newCapacity_58 : decode cJ21_newCapacity 58 = .ok (.ireturn, 1) := dk_172 (dk_at dksJ21_newCapacity_2 11 rfl rfl)
abbrev cJ21_isLatin1 : ByteArray := prog_3_method_68_code
def yJ21_isLatin1 : MethodName := ⟨RJ21, "isLatin1", "()Z"⟩
def dkwJ21_isLatin1_0 : List UInt8 := [178, 0, 18, 153, 0, 14, 42, 180, 0, 22, 154, 0, 7, 4, 167, 0, 4, 3, 172]
abbrev dktJ21_isLatin1_0 : List UInt8 := dkwJ21_isLatin1_0 ++ []
theorem dksJ21_isLatin1_0 : cJ21_isLatin1.data.toList.drop 0 = dktJ21_isLatin1_0 := by decide +kernel
theorem dJ21_isLatin1_0 : decode cJ21_isLatin1 0 = .ok (.getstatic 18, 3) := dk_178 0 18 (dk_at dksJ21_isLatin1_0 0 rfl rfl)
theorem dJ21_isLatin1_3 : decode cJ21_isLatin1 3 = .ok (.ifCond .eq 14, 3) := dk_153 0 14 (dk_at dksJ21_isLatin1_0 3 rfl rfl)
theorem dJ21_isLatin1_6 : decode cJ21_isLatin1 6 = .ok (.aload_n 0, 1) := dk_42 (dk_at dksJ21_isLatin1_0 6 rfl rfl)
theorem dJ21_isLatin1_7 : decode cJ21_isLatin1 7 = .ok (.getfield 22, 3) := dk_180 0 22 (dk_at dksJ21_isLatin1_0 7 rfl rfl)
theorem dJ21_isLatin1_10 : decode cJ21_isLatin1 10 = .ok (.ifCond .ne 7, 3) := dk_154 0 7 (dk_at dksJ21_isLatin1_0 10 rfl rfl)
theorem dJ21_isLatin1_13 : decode cJ21_isLatin1 13 = .ok (.iconst 1, 1) := dk_4 (dk_at dksJ21_isLatin1_0 13 rfl rfl)
theorem dJ21_isLatin1_14 : decode cJ21_isLatin1 14 = .ok (.goto 4, 3) := dk_167 0 4 (dk_at dksJ21_isLatin1_0 14 rfl rfl)
theorem dJ21_isLatin1_17 : decode cJ21_isLatin1 17 = .ok (.iconst 0, 1) := dk_3 (dk_at dksJ21_isLatin1_0 17 rfl rfl)
theorem dJ21_isLatin1_18 : decode cJ21_isLatin1 18 = .ok (.ireturn, 1) := dk_172 (dk_at dksJ21_isLatin1_0 18 rfl rfl)
abbrev cJ21_putStringAt : ByteArray := prog_3_method_73_code
def yJ21_putStringAt : MethodName := ⟨RJ21, "putStringAt", "(ILjava/lang/String;)V"⟩
def dkwJ21_putStringAt_0 : List UInt8 := [42, 44, 182, 1, 141, 44, 42, 180, 0, 15, 27, 42, 180, 0, 22, 182, 1, 143, 177]
abbrev dktJ21_putStringAt_0 : List UInt8 := dkwJ21_putStringAt_0 ++ []
theorem dksJ21_putStringAt_0 : cJ21_putStringAt.data.toList.drop 0 = dktJ21_putStringAt_0 := by decide +kernel
theorem dJ21_putStringAt_0 : decode cJ21_putStringAt 0 = .ok (.aload_n 0, 1) := dk_42 (dk_at dksJ21_putStringAt_0 0 rfl rfl)
theorem dJ21_putStringAt_1 : decode cJ21_putStringAt 1 = .ok (.aload_n 2, 1) := dk_44 (dk_at dksJ21_putStringAt_0 1 rfl rfl)
theorem dJ21_putStringAt_2 : decode cJ21_putStringAt 2 = .ok (.invokevirtual 397, 3) := dk_182 1 141 (dk_at dksJ21_putStringAt_0 2 rfl rfl)
theorem dJ21_putStringAt_5 : decode cJ21_putStringAt 5 = .ok (.aload_n 2, 1) := dk_44 (dk_at dksJ21_putStringAt_0 5 rfl rfl)
theorem dJ21_putStringAt_6 : decode cJ21_putStringAt 6 = .ok (.aload_n 0, 1) := dk_42 (dk_at dksJ21_putStringAt_0 6 rfl rfl)
theorem dJ21_putStringAt_7 : decode cJ21_putStringAt 7 = .ok (.getfield 15, 3) := dk_180 0 15 (dk_at dksJ21_putStringAt_0 7 rfl rfl)
theorem dJ21_putStringAt_10 : decode cJ21_putStringAt 10 = .ok (.iload_n 1, 1) := dk_27 (dk_at dksJ21_putStringAt_0 10 rfl rfl)
theorem dJ21_putStringAt_11 : decode cJ21_putStringAt 11 = .ok (.aload_n 0, 1) := dk_42 (dk_at dksJ21_putStringAt_0 11 rfl rfl)
theorem dJ21_putStringAt_12 : decode cJ21_putStringAt 12 = .ok (.getfield 22, 3) := dk_180 0 22 (dk_at dksJ21_putStringAt_0 12 rfl rfl)
theorem dJ21_putStringAt_15 : decode cJ21_putStringAt 15 = .ok (.invokevirtual 399, 3) := dk_182 1 143 (dk_at dksJ21_putStringAt_0 15 rfl rfl)
theorem dJ21_putStringAt_18 : decode cJ21_putStringAt 18 = .ok (.return_, 1) := dk_177 (dk_at dksJ21_putStringAt_0 18 rfl rfl)
abbrev cJ21_inflateIfNeededFor : ByteArray := prog_3_method_71_code
def yJ21_inflateIfNeededFor : MethodName := ⟨RJ21, "inflateIfNeededFor", "(Ljava/lang/String;)V"⟩
def dkwJ21_inflateIfNeededFor_0 : List UInt8 := [178, 0, 18, 153, 0, 18, 42, 180, 0, 22, 43, 182, 0, 40, 159, 0, 7, 42, 182, 0, 195, 177]
abbrev dktJ21_inflateIfNeededFor_0 : List UInt8 := dkwJ21_inflateIfNeededFor_0 ++ []
theorem dksJ21_inflateIfNeededFor_0 : cJ21_inflateIfNeededFor.data.toList.drop 0 = dktJ21_inflateIfNeededFor_0 := by decide +kernel
theorem dJ21_inflateIfNeededFor_0 : decode cJ21_inflateIfNeededFor 0 = .ok (.getstatic 18, 3) := dk_178 0 18 (dk_at dksJ21_inflateIfNeededFor_0 0 rfl rfl)
theorem dJ21_inflateIfNeededFor_3 : decode cJ21_inflateIfNeededFor 3 = .ok (.ifCond .eq 18, 3) := dk_153 0 18 (dk_at dksJ21_inflateIfNeededFor_0 3 rfl rfl)
theorem dJ21_inflateIfNeededFor_6 : decode cJ21_inflateIfNeededFor 6 = .ok (.aload_n 0, 1) := dk_42 (dk_at dksJ21_inflateIfNeededFor_0 6 rfl rfl)
theorem dJ21_inflateIfNeededFor_7 : decode cJ21_inflateIfNeededFor 7 = .ok (.getfield 22, 3) := dk_180 0 22 (dk_at dksJ21_inflateIfNeededFor_0 7 rfl rfl)
theorem dJ21_inflateIfNeededFor_10 : decode cJ21_inflateIfNeededFor 10 = .ok (.aload_n 1, 1) := dk_43 (dk_at dksJ21_inflateIfNeededFor_0 10 rfl rfl)
theorem dJ21_inflateIfNeededFor_11 : decode cJ21_inflateIfNeededFor 11 = .ok (.invokevirtual 40, 3) := dk_182 0 40 (dk_at dksJ21_inflateIfNeededFor_0 11 rfl rfl)
theorem dJ21_inflateIfNeededFor_14 : decode cJ21_inflateIfNeededFor 14 = .ok (.if_icmp .eq 7, 3) := dk_159 0 7 (dk_at dksJ21_inflateIfNeededFor_0 14 rfl rfl)
theorem dJ21_inflateIfNeededFor_17 : decode cJ21_inflateIfNeededFor 17 = .ok (.aload_n 0, 1) := dk_42 (dk_at dksJ21_inflateIfNeededFor_0 17 rfl rfl)
theorem dJ21_inflateIfNeededFor_18 : decode cJ21_inflateIfNeededFor 18 = .ok (.invokevirtual 195, 3) := dk_182 0 195 (dk_at dksJ21_inflateIfNeededFor_0 18 rfl rfl)
theorem dJ21_inflateIfNeededFor_21 : decode cJ21_inflateIfNeededFor 21 = .ok (.return_, 1) := dk_177 (dk_at dksJ21_inflateIfNeededFor_0 21 rfl rfl)
abbrev cJ21_inflate : ByteArray := prog_3_method_11_code
def yJ21_inflate : MethodName := ⟨RJ21, "inflate", "()V"⟩
def dkwJ21_inflate_1 : List UInt8 := [42, 180, 0, 79, 184, 0, 125, 42, 43, 181, 0, 15, 42, 4, 181, 0, 22, 177]
abbrev dktJ21_inflate_1 : List UInt8 := dkwJ21_inflate_1 ++ []
def dkwJ21_inflate_0 : List UInt8 := [42, 182, 0, 83, 154, 0, 4, 177, 42, 180, 0, 15, 190, 184, 0, 26, 76, 42, 180, 0, 15, 3, 43, 3]
abbrev dktJ21_inflate_0 : List UInt8 := dkwJ21_inflate_0 ++ dktJ21_inflate_1
theorem dksJ21_inflate_0 : cJ21_inflate.data.toList.drop 0 = dktJ21_inflate_0 := by decide +kernel
theorem dksJ21_inflate_1 : cJ21_inflate.data.toList.drop 24 = dktJ21_inflate_1 := dk_seg dksJ21_inflate_0 24 rfl rfl
theorem dJ21_inflate_0 : decode cJ21_inflate 0 = .ok (.aload_n 0, 1) := dk_42 (dk_at dksJ21_inflate_0 0 rfl rfl)
theorem dJ21_inflate_1 : decode cJ21_inflate 1 = .ok (.invokevirtual 83, 3) := dk_182 0 83 (dk_at dksJ21_inflate_0 1 rfl rfl)
theorem dJ21_inflate_4 : decode cJ21_inflate 4 = .ok (.ifCond .ne 4, 3) := dk_154 0 4 (dk_at dksJ21_inflate_0 4 rfl rfl)
theorem dJ21_inflate_7 : decode cJ21_inflate 7 = .ok (.return_, 1) := dk_177 (dk_at dksJ21_inflate_0 7 rfl rfl)
theorem dJ21_inflate_8 : decode cJ21_inflate 8 = .ok (.aload_n 0, 1) := dk_42 (dk_at dksJ21_inflate_0 8 rfl rfl)
theorem dJ21_inflate_9 : decode cJ21_inflate 9 = .ok (.getfield 15, 3) := dk_180 0 15 (dk_at dksJ21_inflate_0 9 rfl rfl)
theorem dJ21_inflate_12 : decode cJ21_inflate 12 = .ok (.arraylength, 1) := dk_190 (dk_at dksJ21_inflate_0 12 rfl rfl)
theorem dJ21_inflate_13 : decode cJ21_inflate 13 = .ok (.invokestatic 26, 3) := dk_184 0 26 (dk_at dksJ21_inflate_0 13 rfl rfl)
theorem dJ21_inflate_16 : decode cJ21_inflate 16 = .ok (.astore_n 1, 1) := dk_76 (dk_at dksJ21_inflate_0 16 rfl rfl)
theorem dJ21_inflate_17 : decode cJ21_inflate 17 = .ok (.aload_n 0, 1) := dk_42 (dk_at dksJ21_inflate_0 17 rfl rfl)
theorem dJ21_inflate_18 : decode cJ21_inflate 18 = .ok (.getfield 15, 3) := dk_180 0 15 (dk_at dksJ21_inflate_0 18 rfl rfl)
theorem dJ21_inflate_21 : decode cJ21_inflate 21 = .ok (.iconst 0, 1) := dk_3 (dk_at dksJ21_inflate_0 21 rfl rfl)
theorem dJ21_inflate_22 : decode cJ21_inflate 22 = .ok (.aload_n 1, 1) := dk_43 (dk_at dksJ21_inflate_0 22 rfl rfl)
theorem dJ21_inflate_23 : decode cJ21_inflate 23 = .ok (.iconst 0, 1) := dk_3 (dk_at dksJ21_inflate_0 23 rfl rfl)
theorem dJ21_inflate_24 : decode cJ21_inflate 24 = .ok (.aload_n 0, 1) := dk_42 (dk_at dksJ21_inflate_1 0 rfl rfl)
theorem dJ21_inflate_25 : decode cJ21_inflate 25 = .ok (.getfield 79, 3) := dk_180 0 79 (dk_at dksJ21_inflate_1 1 rfl rfl)
theorem dJ21_inflate_28 : decode cJ21_inflate 28 = .ok (.invokestatic 125, 3) := dk_184 0 125 (dk_at dksJ21_inflate_1 4 rfl rfl)
theorem dJ21_inflate_31 : decode cJ21_inflate 31 = .ok (.aload_n 0, 1) := dk_42 (dk_at dksJ21_inflate_1 7 rfl rfl)
theorem dJ21_inflate_32 : decode cJ21_inflate 32 = .ok (.aload_n 1, 1) := dk_43 (dk_at dksJ21_inflate_1 8 rfl rfl)
theorem dJ21_inflate_33 : decode cJ21_inflate 33 = .ok (.putfield 15, 3) := dk_181 0 15 (dk_at dksJ21_inflate_1 9 rfl rfl)
theorem dJ21_inflate_36 : decode cJ21_inflate 36 = .ok (.aload_n 0, 1) := dk_42 (dk_at dksJ21_inflate_1 12 rfl rfl)
theorem dJ21_inflate_37 : decode cJ21_inflate 37 = .ok (.iconst 1, 1) := dk_4 (dk_at dksJ21_inflate_1 13 rfl rfl)
theorem dJ21_inflate_38 : decode cJ21_inflate 38 = .ok (.putfield 22, 3) := dk_181 0 22 (dk_at dksJ21_inflate_1 14 rfl rfl)
theorem dJ21_inflate_41 : decode cJ21_inflate 41 = .ok (.return_, 1) := dk_177 (dk_at dksJ21_inflate_1 17 rfl rfl)
abbrev cJ21_append_2 : ByteArray := prog_3_method_32_code
def yJ21_append_2 : MethodName := ⟨RJ21, "append", "(I)Ljava/lang/AbstractStringBuilder;"⟩
def dkwJ21_append_2_2 : List UInt8 := [42, 29, 181, 0, 79, 42, 176]
abbrev dktJ21_append_2_2 : List UInt8 := dkwJ21_append_2_2 ++ []
def dkwJ21_append_2_1 : List UInt8 := [27, 29, 42, 180, 0, 15, 184, 0, 248, 87, 167, 0, 14, 27, 28, 29, 42, 180, 0, 15, 184, 0, 251, 87]
abbrev dktJ21_append_2_1 : List UInt8 := dkwJ21_append_2_1 ++ dktJ21_append_2_2
def dkwJ21_append_2_0 : List UInt8 := [42, 180, 0, 79, 61, 28, 27, 184, 0, 245, 96, 62, 42, 29, 182, 0, 100, 42, 182, 0, 83, 153, 0, 16]
abbrev dktJ21_append_2_0 : List UInt8 := dkwJ21_append_2_0 ++ dktJ21_append_2_1
theorem dksJ21_append_2_0 : cJ21_append_2.data.toList.drop 0 = dktJ21_append_2_0 := by decide +kernel
theorem dksJ21_append_2_1 : cJ21_append_2.data.toList.drop 24 = dktJ21_append_2_1 := dk_seg dksJ21_append_2_0 24 rfl rfl
theorem dksJ21_append_2_2 : cJ21_append_2.data.toList.drop 48 = dktJ21_append_2_2 := dk_seg dksJ21_append_2_1 24 rfl rfl
theorem dJ21_append_2_0 : decode cJ21_append_2 0 = .ok (.aload_n 0, 1) := dk_42 (dk_at dksJ21_append_2_0 0 rfl rfl)
theorem dJ21_append_2_1 : decode cJ21_append_2 1 = .ok (.getfield 79, 3) := dk_180 0 79 (dk_at dksJ21_append_2_0 1 rfl rfl)
theorem dJ21_append_2_4 : decode cJ21_append_2 4 = .ok (.istore_n 2, 1) := dk_61 (dk_at dksJ21_append_2_0 4 rfl rfl)
theorem dJ21_append_2_5 : decode cJ21_append_2 5 = .ok (.iload_n 2, 1) := dk_28 (dk_at dksJ21_append_2_0 5 rfl rfl)
theorem dJ21_append_2_6 : decode cJ21_append_2 6 = .ok (.iload_n 1, 1) := dk_27 (dk_at dksJ21_append_2_0 6 rfl rfl)
theorem dJ21_append_2_7 : decode cJ21_append_2 7 = .ok (.invokestatic 245, 3) := dk_184 0 245 (dk_at dksJ21_append_2_0 7 rfl rfl)
theorem dJ21_append_2_10 : decode cJ21_append_2 10 = .ok (.iadd, 1) := dk_96 (dk_at dksJ21_append_2_0 10 rfl rfl)
theorem dJ21_append_2_11 : decode cJ21_append_2 11 = .ok (.istore_n 3, 1) := dk_62 (dk_at dksJ21_append_2_0 11 rfl rfl)
theorem dJ21_append_2_12 : decode cJ21_append_2 12 = .ok (.aload_n 0, 1) := dk_42 (dk_at dksJ21_append_2_0 12 rfl rfl)
theorem dJ21_append_2_13 : decode cJ21_append_2 13 = .ok (.iload_n 3, 1) := dk_29 (dk_at dksJ21_append_2_0 13 rfl rfl)
theorem dJ21_append_2_14 : decode cJ21_append_2 14 = .ok (.invokevirtual 100, 3) := dk_182 0 100 (dk_at dksJ21_append_2_0 14 rfl rfl)
theorem dJ21_append_2_17 : decode cJ21_append_2 17 = .ok (.aload_n 0, 1) := dk_42 (dk_at dksJ21_append_2_0 17 rfl rfl)
theorem dJ21_append_2_18 : decode cJ21_append_2 18 = .ok (.invokevirtual 83, 3) := dk_182 0 83 (dk_at dksJ21_append_2_0 18 rfl rfl)
theorem dJ21_append_2_21 : decode cJ21_append_2 21 = .ok (.ifCond .eq 16, 3) := dk_153 0 16 (dk_at dksJ21_append_2_0 21 rfl rfl)
theorem dJ21_append_2_24 : decode cJ21_append_2 24 = .ok (.iload_n 1, 1) := dk_27 (dk_at dksJ21_append_2_1 0 rfl rfl)
theorem dJ21_append_2_25 : decode cJ21_append_2 25 = .ok (.iload_n 3, 1) := dk_29 (dk_at dksJ21_append_2_1 1 rfl rfl)
theorem dJ21_append_2_26 : decode cJ21_append_2 26 = .ok (.aload_n 0, 1) := dk_42 (dk_at dksJ21_append_2_1 2 rfl rfl)
theorem dJ21_append_2_27 : decode cJ21_append_2 27 = .ok (.getfield 15, 3) := dk_180 0 15 (dk_at dksJ21_append_2_1 3 rfl rfl)
theorem dJ21_append_2_30 : decode cJ21_append_2 30 = .ok (.invokestatic 248, 3) := dk_184 0 248 (dk_at dksJ21_append_2_1 6 rfl rfl)
theorem dJ21_append_2_33 : decode cJ21_append_2 33 = .ok (.pop, 1) := dk_87 (dk_at dksJ21_append_2_1 9 rfl rfl)
theorem dJ21_append_2_34 : decode cJ21_append_2 34 = .ok (.goto 14, 3) := dk_167 0 14 (dk_at dksJ21_append_2_1 10 rfl rfl)
theorem dJ21_append_2_37 : decode cJ21_append_2 37 = .ok (.iload_n 1, 1) := dk_27 (dk_at dksJ21_append_2_1 13 rfl rfl)
theorem dJ21_append_2_38 : decode cJ21_append_2 38 = .ok (.iload_n 2, 1) := dk_28 (dk_at dksJ21_append_2_1 14 rfl rfl)
theorem dJ21_append_2_39 : decode cJ21_append_2 39 = .ok (.iload_n 3, 1) := dk_29 (dk_at dksJ21_append_2_1 15 rfl rfl)
theorem dJ21_append_2_40 : decode cJ21_append_2 40 = .ok (.aload_n 0, 1) := dk_42 (dk_at dksJ21_append_2_1 16 rfl rfl)
theorem dJ21_append_2_41 : decode cJ21_append_2 41 = .ok (.getfield 15, 3) := dk_180 0 15 (dk_at dksJ21_append_2_1 17 rfl rfl)
theorem dJ21_append_2_44 : decode cJ21_append_2 44 = .ok (.invokestatic 251, 3) := dk_184 0 251 (dk_at dksJ21_append_2_1 20 rfl rfl)
theorem dJ21_append_2_47 : decode cJ21_append_2 47 = .ok (.pop, 1) := dk_87 (dk_at dksJ21_append_2_1 23 rfl rfl)
theorem dJ21_append_2_48 : decode cJ21_append_2 48 = .ok (.aload_n 0, 1) := dk_42 (dk_at dksJ21_append_2_2 0 rfl rfl)
theorem dJ21_append_2_49 : decode cJ21_append_2 49 = .ok (.iload_n 3, 1) := dk_29 (dk_at dksJ21_append_2_2 1 rfl rfl)
theorem dJ21_append_2_50 : decode cJ21_append_2 50 = .ok (.putfield 79, 3) := dk_181 0 79 (dk_at dksJ21_append_2_2 2 rfl rfl)
theorem dJ21_append_2_53 : decode cJ21_append_2 53 = .ok (.aload_n 0, 1) := dk_42 (dk_at dksJ21_append_2_2 5 rfl rfl)
theorem dJ21_append_2_54 : decode cJ21_append_2 54 = .ok (.areturn, 1) := dk_176 (dk_at dksJ21_append_2_2 6 rfl rfl)
abbrev cJ21_getValue : ByteArray := prog_3_method_64_code
def yJ21_getValue : MethodName := ⟨RJ21, "getValue", "()[B"⟩
theorem dJ21_getValue_0 : decode cJ21_getValue 0 = .ok (.aload_n 0, 1) := by decide +kernel
theorem dJ21_getValue_1 : decode cJ21_getValue 1 = .ok (.getfield 15, 3) := by decide +kernel
theorem dJ21_getValue_4 : decode cJ21_getValue 4 = .ok (.areturn, 1) := by decide +kernel
abbrev cJ21_length : ByteArray := prog_3_method_6_code
def yJ21_length : MethodName := ⟨RJ21, "length", "()I"⟩
theorem dJ21_length_0 : decode cJ21_length 0 = .ok (.aload_n 0, 1) := by decide +kernel
theorem dJ21_length_1 : decode cJ21_length 1 = .ok (.getfield 79, 3) := by decide +kernel
theorem dJ21_length_4 : decode cJ21_length 4 = .ok (.ireturn, 1) := by decide +kernel
abbrev cJ21_append_3 : ByteArray := prog_3_method_31_code
def yJ21_append_3 : MethodName := ⟨RJ21, "append", "(C)Ljava/lang/AbstractStringBuilder;"⟩
def dkwJ21_append_3_3 : List UInt8 := [181, 0, 79, 27, 184, 0, 197, 42, 176]
abbrev dktJ21_append_3_3 : List UInt8 := dkwJ21_append_3_3 ++ []
def dkwJ21_append_3_2 : List UInt8 := [182, 0, 83, 153, 0, 7, 42, 182, 0, 195, 42, 180, 0, 15, 42, 89, 180, 0, 79, 90, 4, 96]
abbrev dktJ21_append_3_2 : List UInt8 := dkwJ21_append_3_2 ++ dktJ21_append_3_3
def dkwJ21_append_3_1 : List UInt8 := [42, 180, 0, 15, 42, 89, 180, 0, 79, 90, 4, 96, 181, 0, 79, 27, 145, 84, 167, 0, 33, 42]
abbrev dktJ21_append_3_1 : List UInt8 := dkwJ21_append_3_1 ++ dktJ21_append_3_2
def dkwJ21_append_3_0 : List UInt8 := [42, 42, 180, 0, 79, 4, 96, 182, 0, 100, 42, 182, 0, 83, 153, 0, 31, 27, 184, 0, 191, 153, 0, 24]
abbrev dktJ21_append_3_0 : List UInt8 := dkwJ21_append_3_0 ++ dktJ21_append_3_1
theorem dksJ21_append_3_0 : cJ21_append_3.data.toList.drop 0 = dktJ21_append_3_0 := by decide +kernel
theorem dksJ21_append_3_1 : cJ21_append_3.data.toList.drop 24 = dktJ21_append_3_1 := dk_seg dksJ21_append_3_0 24 rfl rfl
theorem dksJ21_append_3_2 : cJ21_append_3.data.toList.drop 46 = dktJ21_append_3_2 := dk_seg dksJ21_append_3_1 22 rfl rfl
theorem dksJ21_append_3_3 : cJ21_append_3.data.toList.drop 68 = dktJ21_append_3_3 := dk_seg dksJ21_append_3_2 22 rfl rfl
theorem dJ21_append_3_0 : decode cJ21_append_3 0 = .ok (.aload_n 0, 1) := dk_42 (dk_at dksJ21_append_3_0 0 rfl rfl)
theorem dJ21_append_3_1 : decode cJ21_append_3 1 = .ok (.aload_n 0, 1) := dk_42 (dk_at dksJ21_append_3_0 1 rfl rfl)
theorem dJ21_append_3_2 : decode cJ21_append_3 2 = .ok (.getfield 79, 3) := dk_180 0 79 (dk_at dksJ21_append_3_0 2 rfl rfl)
theorem dJ21_append_3_5 : decode cJ21_append_3 5 = .ok (.iconst 1, 1) := dk_4 (dk_at dksJ21_append_3_0 5 rfl rfl)
theorem dJ21_append_3_6 : decode cJ21_append_3 6 = .ok (.iadd, 1) := dk_96 (dk_at dksJ21_append_3_0 6 rfl rfl)
theorem dJ21_append_3_7 : decode cJ21_append_3 7 = .ok (.invokevirtual 100, 3) := dk_182 0 100 (dk_at dksJ21_append_3_0 7 rfl rfl)
theorem dJ21_append_3_10 : decode cJ21_append_3 10 = .ok (.aload_n 0, 1) := dk_42 (dk_at dksJ21_append_3_0 10 rfl rfl)
theorem dJ21_append_3_11 : decode cJ21_append_3 11 = .ok (.invokevirtual 83, 3) := dk_182 0 83 (dk_at dksJ21_append_3_0 11 rfl rfl)
theorem dJ21_append_3_14 : decode cJ21_append_3 14 = .ok (.ifCond .eq 31, 3) := dk_153 0 31 (dk_at dksJ21_append_3_0 14 rfl rfl)
theorem dJ21_append_3_17 : decode cJ21_append_3 17 = .ok (.iload_n 1, 1) := dk_27 (dk_at dksJ21_append_3_0 17 rfl rfl)
theorem dJ21_append_3_18 : decode cJ21_append_3 18 = .ok (.invokestatic 191, 3) := dk_184 0 191 (dk_at dksJ21_append_3_0 18 rfl rfl)
theorem dJ21_append_3_21 : decode cJ21_append_3 21 = .ok (.ifCond .eq 24, 3) := dk_153 0 24 (dk_at dksJ21_append_3_0 21 rfl rfl)
theorem dJ21_append_3_24 : decode cJ21_append_3 24 = .ok (.aload_n 0, 1) := dk_42 (dk_at dksJ21_append_3_1 0 rfl rfl)
theorem dJ21_append_3_25 : decode cJ21_append_3 25 = .ok (.getfield 15, 3) := dk_180 0 15 (dk_at dksJ21_append_3_1 1 rfl rfl)
theorem dJ21_append_3_28 : decode cJ21_append_3 28 = .ok (.aload_n 0, 1) := dk_42 (dk_at dksJ21_append_3_1 4 rfl rfl)
theorem dJ21_append_3_29 : decode cJ21_append_3 29 = .ok (.dup, 1) := dk_89 (dk_at dksJ21_append_3_1 5 rfl rfl)
theorem dJ21_append_3_30 : decode cJ21_append_3 30 = .ok (.getfield 79, 3) := dk_180 0 79 (dk_at dksJ21_append_3_1 6 rfl rfl)
theorem dJ21_append_3_33 : decode cJ21_append_3 33 = .ok (.dup_x1, 1) := dk_90 (dk_at dksJ21_append_3_1 9 rfl rfl)
theorem dJ21_append_3_34 : decode cJ21_append_3 34 = .ok (.iconst 1, 1) := dk_4 (dk_at dksJ21_append_3_1 10 rfl rfl)
theorem dJ21_append_3_35 : decode cJ21_append_3 35 = .ok (.iadd, 1) := dk_96 (dk_at dksJ21_append_3_1 11 rfl rfl)
theorem dJ21_append_3_36 : decode cJ21_append_3 36 = .ok (.putfield 79, 3) := dk_181 0 79 (dk_at dksJ21_append_3_1 12 rfl rfl)
theorem dJ21_append_3_39 : decode cJ21_append_3 39 = .ok (.iload_n 1, 1) := dk_27 (dk_at dksJ21_append_3_1 15 rfl rfl)
theorem dJ21_append_3_40 : decode cJ21_append_3 40 = .ok (.i2b, 1) := dk_145 (dk_at dksJ21_append_3_1 16 rfl rfl)
theorem dJ21_append_3_41 : decode cJ21_append_3 41 = .ok (.bastore, 1) := dk_84 (dk_at dksJ21_append_3_1 17 rfl rfl)
theorem dJ21_append_3_42 : decode cJ21_append_3 42 = .ok (.goto 33, 3) := dk_167 0 33 (dk_at dksJ21_append_3_1 18 rfl rfl)
theorem dJ21_append_3_45 : decode cJ21_append_3 45 = .ok (.aload_n 0, 1) := dk_42 (dk_at dksJ21_append_3_1 21 rfl rfl)
theorem dJ21_append_3_46 : decode cJ21_append_3 46 = .ok (.invokevirtual 83, 3) := dk_182 0 83 (dk_at dksJ21_append_3_2 0 rfl rfl)
theorem dJ21_append_3_49 : decode cJ21_append_3 49 = .ok (.ifCond .eq 7, 3) := dk_153 0 7 (dk_at dksJ21_append_3_2 3 rfl rfl)
theorem dJ21_append_3_52 : decode cJ21_append_3 52 = .ok (.aload_n 0, 1) := dk_42 (dk_at dksJ21_append_3_2 6 rfl rfl)
theorem dJ21_append_3_53 : decode cJ21_append_3 53 = .ok (.invokevirtual 195, 3) := dk_182 0 195 (dk_at dksJ21_append_3_2 7 rfl rfl)
theorem dJ21_append_3_56 : decode cJ21_append_3 56 = .ok (.aload_n 0, 1) := dk_42 (dk_at dksJ21_append_3_2 10 rfl rfl)
theorem dJ21_append_3_57 : decode cJ21_append_3 57 = .ok (.getfield 15, 3) := dk_180 0 15 (dk_at dksJ21_append_3_2 11 rfl rfl)
theorem dJ21_append_3_60 : decode cJ21_append_3 60 = .ok (.aload_n 0, 1) := dk_42 (dk_at dksJ21_append_3_2 14 rfl rfl)
theorem dJ21_append_3_61 : decode cJ21_append_3 61 = .ok (.dup, 1) := dk_89 (dk_at dksJ21_append_3_2 15 rfl rfl)
theorem dJ21_append_3_62 : decode cJ21_append_3 62 = .ok (.getfield 79, 3) := dk_180 0 79 (dk_at dksJ21_append_3_2 16 rfl rfl)
theorem dJ21_append_3_65 : decode cJ21_append_3 65 = .ok (.dup_x1, 1) := dk_90 (dk_at dksJ21_append_3_2 19 rfl rfl)
theorem dJ21_append_3_66 : decode cJ21_append_3 66 = .ok (.iconst 1, 1) := dk_4 (dk_at dksJ21_append_3_2 20 rfl rfl)
theorem dJ21_append_3_67 : decode cJ21_append_3 67 = .ok (.iadd, 1) := dk_96 (dk_at dksJ21_append_3_2 21 rfl rfl)
theorem dJ21_append_3_68 : decode cJ21_append_3 68 = .ok (.putfield 79, 3) := dk_181 0 79 (dk_at dksJ21_append_3_3 0 rfl rfl)
theorem dJ21_append_3_71 : decode cJ21_append_3 71 = .ok (.iload_n 1, 1) := dk_27 (dk_at dksJ21_append_3_3 3 rfl rfl)
theorem dJ21_append_3_72 : decode cJ21_append_3 72 = .ok (.invokestatic 197, 3) := dk_184 0 197 (dk_at dksJ21_append_3_3 4 rfl rfl)
theorem dJ21_append_3_75 : decode cJ21_append_3 75 = .ok (.aload_n 0, 1) := dk_42 (dk_at dksJ21_append_3_3 7 rfl rfl)
theorem dJ21_append_3_76 : decode cJ21_append_3 76 = .ok (.areturn, 1) := dk_176 (dk_at dksJ21_append_3_3 8 rfl rfl)
abbrev cJ21_append_4 : ByteArray := prog_3_method_33_code
def yJ21_append_4 : MethodName := ⟨RJ21, "append", "(J)Ljava/lang/AbstractStringBuilder;"⟩
def dkwJ21_append_4_2 : List UInt8 := [180, 0, 15, 184, 1, 6, 87, 42, 21, 4, 181, 0, 79, 42, 176]
abbrev dktJ21_append_4_2 : List UInt8 := dkwJ21_append_4_2 ++ []
def dkwJ21_append_4_1 : List UInt8 := [153, 0, 17, 31, 21, 4, 42, 180, 0, 15, 184, 1, 3, 87, 167, 0, 15, 31, 29, 21, 4, 42]
abbrev dktJ21_append_4_1 : List UInt8 := dkwJ21_append_4_1 ++ dktJ21_append_4_2
def dkwJ21_append_4_0 : List UInt8 := [42, 180, 0, 79, 62, 29, 31, 184, 0, 254, 96, 54, 4, 42, 21, 4, 182, 0, 100, 42, 182, 0, 83]
abbrev dktJ21_append_4_0 : List UInt8 := dkwJ21_append_4_0 ++ dktJ21_append_4_1
theorem dksJ21_append_4_0 : cJ21_append_4.data.toList.drop 0 = dktJ21_append_4_0 := by decide +kernel
theorem dksJ21_append_4_1 : cJ21_append_4.data.toList.drop 23 = dktJ21_append_4_1 := dk_seg dksJ21_append_4_0 23 rfl rfl
theorem dksJ21_append_4_2 : cJ21_append_4.data.toList.drop 45 = dktJ21_append_4_2 := dk_seg dksJ21_append_4_1 22 rfl rfl
theorem dJ21_append_4_0 : decode cJ21_append_4 0 = .ok (.aload_n 0, 1) := dk_42 (dk_at dksJ21_append_4_0 0 rfl rfl)
theorem dJ21_append_4_1 : decode cJ21_append_4 1 = .ok (.getfield 79, 3) := dk_180 0 79 (dk_at dksJ21_append_4_0 1 rfl rfl)
theorem dJ21_append_4_4 : decode cJ21_append_4 4 = .ok (.istore_n 3, 1) := dk_62 (dk_at dksJ21_append_4_0 4 rfl rfl)
theorem dJ21_append_4_5 : decode cJ21_append_4 5 = .ok (.iload_n 3, 1) := dk_29 (dk_at dksJ21_append_4_0 5 rfl rfl)
theorem dJ21_append_4_6 : decode cJ21_append_4 6 = .ok (.lload_n 1, 1) := dk_31 (dk_at dksJ21_append_4_0 6 rfl rfl)
theorem dJ21_append_4_7 : decode cJ21_append_4 7 = .ok (.invokestatic 254, 3) := dk_184 0 254 (dk_at dksJ21_append_4_0 7 rfl rfl)
theorem dJ21_append_4_10 : decode cJ21_append_4 10 = .ok (.iadd, 1) := dk_96 (dk_at dksJ21_append_4_0 10 rfl rfl)
theorem dJ21_append_4_11 : decode cJ21_append_4 11 = .ok (.istore 4, 2) := dk_54 4 (dk_at dksJ21_append_4_0 11 rfl rfl)
theorem dJ21_append_4_13 : decode cJ21_append_4 13 = .ok (.aload_n 0, 1) := dk_42 (dk_at dksJ21_append_4_0 13 rfl rfl)
theorem dJ21_append_4_14 : decode cJ21_append_4 14 = .ok (.iload 4, 2) := dk_21 4 (dk_at dksJ21_append_4_0 14 rfl rfl)
theorem dJ21_append_4_16 : decode cJ21_append_4 16 = .ok (.invokevirtual 100, 3) := dk_182 0 100 (dk_at dksJ21_append_4_0 16 rfl rfl)
theorem dJ21_append_4_19 : decode cJ21_append_4 19 = .ok (.aload_n 0, 1) := dk_42 (dk_at dksJ21_append_4_0 19 rfl rfl)
theorem dJ21_append_4_20 : decode cJ21_append_4 20 = .ok (.invokevirtual 83, 3) := dk_182 0 83 (dk_at dksJ21_append_4_0 20 rfl rfl)
theorem dJ21_append_4_23 : decode cJ21_append_4 23 = .ok (.ifCond .eq 17, 3) := dk_153 0 17 (dk_at dksJ21_append_4_1 0 rfl rfl)
theorem dJ21_append_4_26 : decode cJ21_append_4 26 = .ok (.lload_n 1, 1) := dk_31 (dk_at dksJ21_append_4_1 3 rfl rfl)
theorem dJ21_append_4_27 : decode cJ21_append_4 27 = .ok (.iload 4, 2) := dk_21 4 (dk_at dksJ21_append_4_1 4 rfl rfl)
theorem dJ21_append_4_29 : decode cJ21_append_4 29 = .ok (.aload_n 0, 1) := dk_42 (dk_at dksJ21_append_4_1 6 rfl rfl)
theorem dJ21_append_4_30 : decode cJ21_append_4 30 = .ok (.getfield 15, 3) := dk_180 0 15 (dk_at dksJ21_append_4_1 7 rfl rfl)
theorem dJ21_append_4_33 : decode cJ21_append_4 33 = .ok (.invokestatic 259, 3) := dk_184 1 3 (dk_at dksJ21_append_4_1 10 rfl rfl)
theorem dJ21_append_4_36 : decode cJ21_append_4 36 = .ok (.pop, 1) := dk_87 (dk_at dksJ21_append_4_1 13 rfl rfl)
theorem dJ21_append_4_37 : decode cJ21_append_4 37 = .ok (.goto 15, 3) := dk_167 0 15 (dk_at dksJ21_append_4_1 14 rfl rfl)
theorem dJ21_append_4_40 : decode cJ21_append_4 40 = .ok (.lload_n 1, 1) := dk_31 (dk_at dksJ21_append_4_1 17 rfl rfl)
theorem dJ21_append_4_41 : decode cJ21_append_4 41 = .ok (.iload_n 3, 1) := dk_29 (dk_at dksJ21_append_4_1 18 rfl rfl)
theorem dJ21_append_4_42 : decode cJ21_append_4 42 = .ok (.iload 4, 2) := dk_21 4 (dk_at dksJ21_append_4_1 19 rfl rfl)
theorem dJ21_append_4_44 : decode cJ21_append_4 44 = .ok (.aload_n 0, 1) := dk_42 (dk_at dksJ21_append_4_1 21 rfl rfl)
theorem dJ21_append_4_45 : decode cJ21_append_4 45 = .ok (.getfield 15, 3) := dk_180 0 15 (dk_at dksJ21_append_4_2 0 rfl rfl)
theorem dJ21_append_4_48 : decode cJ21_append_4 48 = .ok (.invokestatic 262, 3) := dk_184 1 6 (dk_at dksJ21_append_4_2 3 rfl rfl)
theorem dJ21_append_4_51 : decode cJ21_append_4 51 = .ok (.pop, 1) := dk_87 (dk_at dksJ21_append_4_2 6 rfl rfl)
theorem dJ21_append_4_52 : decode cJ21_append_4 52 = .ok (.aload_n 0, 1) := dk_42 (dk_at dksJ21_append_4_2 7 rfl rfl)
theorem dJ21_append_4_53 : decode cJ21_append_4 53 = .ok (.iload 4, 2) := dk_21 4 (dk_at dksJ21_append_4_2 8 rfl rfl)
theorem dJ21_append_4_55 : decode cJ21_append_4 55 = .ok (.putfield 79, 3) := dk_181 0 79 (dk_at dksJ21_append_4_2 10 rfl rfl)
theorem dJ21_append_4_58 : decode cJ21_append_4 58 = .ok (.aload_n 0, 1) := dk_42 (dk_at dksJ21_append_4_2 13 rfl rfl)
theorem dJ21_append_4_59 : decode cJ21_append_4 59 = .ok (.areturn, 1) := dk_176 (dk_at dksJ21_append_4_2 14 rfl rfl)
theorem q63 : (Jvm.Cond.initialized "java/lang/AbstractStringBuilder") ∈ lw_all := lw_g (lw_at lw_m1 24 rfl) rfl
theorem q540 : (Jvm.Cond.instanceMethod ({ cls := "java/lang/AbstractStringBuilder", name := "<init>", desc := "(I)V" } : Jvm.MethodName)) ∈ lw_all := lw_g (lw_at lw_m3 21 rfl) rfl
theorem q541 : (Jvm.Cond.code ({ cls := "java/lang/AbstractStringBuilder", name := "<init>", desc := "(I)V" } : Jvm.MethodName) prog_3_method_2_code (2 : Nat) (Option.none : Option Jvm.ClassFile.FieldType)) ∈ lw_all := lw_g (lw_at lw_m3 22 rfl) rfl
theorem q542 : (Jvm.Cond.methodLink "java/lang/AbstractStringBuilder" (3 : Nat) ({ cls := "java/lang/Object", name := "<init>", desc := "()V" } : Jvm.MethodName)) ∈ lw_all := lw_g (lw_at lw_m3 23 rfl) rfl
theorem q543 : (Jvm.Cond.fieldLink "java/lang/AbstractStringBuilder" (18 : Nat) "java/lang/String" "COMPACT_STRINGS" "Z") ∈ lw_all := lw_g (lw_at lw_m3 24 rfl) rfl
theorem q545 : (Jvm.Cond.methodLink "java/lang/AbstractStringBuilder" (26 : Nat) ({ cls := "java/lang/StringUTF16", name := "newBytesFor", desc := "(I)[B" } : Jvm.MethodName)) ∈ lw_all := lw_g (lw_at lw_m3 26 rfl) rfl
theorem q552 : (Jvm.Cond.fieldLink "java/lang/AbstractStringBuilder" (15 : Nat) "java/lang/AbstractStringBuilder" "value" "[B") ∈ lw_all := lw_g (lw_at lw_m3 33 rfl) rfl
theorem q553 : (Jvm.Cond.fieldLink "java/lang/AbstractStringBuilder" (22 : Nat) "java/lang/AbstractStringBuilder" "coder" "B") ∈ lw_all := lw_g (lw_at lw_m3 34 rfl) rfl
theorem q555 : (Jvm.Cond.fieldLink "java/lang/AbstractStringBuilder" (79 : Nat) "java/lang/AbstractStringBuilder" "count" "I") ∈ lw_all := lw_g (lw_at lw_m3 36 rfl) rfl
theorem q557 : (Jvm.Cond.soleField "java/lang/AbstractStringBuilder" "value") ∈ lw_all := lw_g (lw_at lw_m3 38 rfl) rfl
theorem q559 : (Jvm.Cond.soleField "java/lang/AbstractStringBuilder" "coder") ∈ lw_all := lw_g (lw_at lw_m3 40 rfl) rfl
theorem q561 : (Jvm.Cond.soleField "java/lang/AbstractStringBuilder" "maybeLatin1") ∈ lw_all := lw_g (lw_at lw_m3 42 rfl) rfl
theorem q563 : (Jvm.Cond.soleField "java/lang/AbstractStringBuilder" "count") ∈ lw_all := lw_g (lw_at lw_m3 44 rfl) rfl
theorem q571 : (Jvm.Cond.instanceMethod ({ cls := "java/lang/AbstractStringBuilder", name := "append", desc := "(Ljava/lang/String;)Ljava/lang/AbstractStringBuilder;" } : Jvm.MethodName)) ∈ lw_all := lw_g (lw_at lw_m3 52 rfl) rfl
theorem q572 : (Jvm.Cond.code ({ cls := "java/lang/AbstractStringBuilder", name := "append", desc := "(Ljava/lang/String;)Ljava/lang/AbstractStringBuilder;" } : Jvm.MethodName) prog_3_method_22_code (3 : Nat) (Option.some (Jvm.ClassFile.FieldType.object "java/lang/AbstractStringBuilder"))) ∈ lw_all := lw_g (lw_at lw_m3 53 rfl) rfl
theorem q573 : (Jvm.Cond.methodLink "java/lang/AbstractStringBuilder" (204 : Nat) ({ cls := "java/lang/AbstractStringBuilder", name := "appendNull", desc := "()Ljava/lang/AbstractStringBuilder;" } : Jvm.MethodName)) ∈ lw_all := lw_g (lw_at lw_m3 54 rfl) rfl
theorem q574 : (Jvm.Cond.privateMethod ({ cls := "java/lang/AbstractStringBuilder", name := "appendNull", desc := "()Ljava/lang/AbstractStringBuilder;" } : Jvm.MethodName)) ∈ lw_tbl := lw_at lw_m3 55 rfl
theorem q575 : (Jvm.Cond.instanceMethod ({ cls := "java/lang/AbstractStringBuilder", name := "appendNull", desc := "()Ljava/lang/AbstractStringBuilder;" } : Jvm.MethodName)) ∈ lw_all := lw_g (lw_at lw_m3 56 rfl) rfl
theorem q576 : (Jvm.Cond.code ({ cls := "java/lang/AbstractStringBuilder", name := "appendNull", desc := "()Ljava/lang/AbstractStringBuilder;" } : Jvm.MethodName) prog_3_method_26_code (3 : Nat) (Option.some (Jvm.ClassFile.FieldType.object "java/lang/AbstractStringBuilder"))) ∈ lw_all := lw_g (lw_at lw_m3 57 rfl) rfl
theorem q577 : (Jvm.Cond.methodLink "java/lang/AbstractStringBuilder" (100 : Nat) ({ cls := "java/lang/AbstractStringBuilder", name := "ensureCapacityInternal", desc := "(I)V" } : Jvm.MethodName)) ∈ lw_all := lw_g (lw_at lw_m3 58 rfl) rfl
theorem q578 : (Jvm.Cond.privateMethod ({ cls := "java/lang/AbstractStringBuilder", name := "ensureCapacityInternal", desc := "(I)V" } : Jvm.MethodName)) ∈ lw_tbl := lw_at lw_m3 59 rfl
theorem q579 : (Jvm.Cond.instanceMethod ({ cls := "java/lang/AbstractStringBuilder", name := "ensureCapacityInternal", desc := "(I)V" } : Jvm.MethodName)) ∈ lw_all := lw_g (lw_at lw_m3 60 rfl) rfl
theorem q580 : (Jvm.Cond.code ({ cls := "java/lang/AbstractStringBuilder", name := "ensureCapacityInternal", desc := "(I)V" } : Jvm.MethodName) prog_3_method_9_code (3 : Nat) (Option.none : Option Jvm.ClassFile.FieldType)) ∈ lw_all := lw_g (lw_at lw_m3 61 rfl) rfl
theorem q581 : (Jvm.Cond.methodLink "java/lang/AbstractStringBuilder" (104 : Nat) ({ cls := "java/lang/AbstractStringBuilder", name := "newCapacity", desc := "(I)I" } : Jvm.MethodName)) ∈ lw_all := lw_g (lw_at lw_m3 62 rfl) rfl
theorem q582 : (Jvm.Cond.privateMethod ({ cls := "java/lang/AbstractStringBuilder", name := "newCapacity", desc := "(I)I" } : Jvm.MethodName)) ∈ lw_tbl := lw_at lw_m3 63 rfl
theorem q583 : (Jvm.Cond.instanceMethod ({ cls := "java/lang/AbstractStringBuilder", name := "newCapacity", desc := "(I)I" } : Jvm.MethodName)) ∈ lw_all := lw_g (lw_at lw_m3 64 rfl) rfl
theorem q584 : (Jvm.Cond.code ({ cls := "java/lang/AbstractStringBuilder", name := "newCapacity", desc := "(I)I" } : Jvm.MethodName) prog_3_method_10_code (6 : Nat) (Option.some Jvm.ClassFile.FieldType.int)) ∈ lw_all := lw_g (lw_at lw_m3 65 rfl) rfl
theorem q585 : (Jvm.Cond.methodLink "java/lang/AbstractStringBuilder" (114 : Nat) ({ cls := "jdk/internal/util/ArraysSupport", name := "newLength", desc := "(III)I" } : Jvm.MethodName)) ∈ lw_all := lw_g (lw_at lw_m3 66 rfl) rfl
theorem q593 : (Jvm.Cond.constant "java/lang/AbstractStringBuilder" (39 : Nat) (2147483647 : Int32)) ∈ lw_all := lw_g (lw_at lw_m3 74 rfl) rfl
theorem q594 : (Jvm.Cond.methodLink "java/lang/AbstractStringBuilder" (108 : Nat) ({ cls := "java/util/Arrays", name := "copyOf", desc := "([BI)[B" } : Jvm.MethodName)) ∈ lw_all := lw_g (lw_at lw_m3 75 rfl) rfl
theorem q602 : (Jvm.Cond.methodLink "java/lang/AbstractStringBuilder" (83 : Nat) ({ cls := "java/lang/AbstractStringBuilder", name := "isLatin1", desc := "()Z" } : Jvm.MethodName)) ∈ lw_all := lw_g (lw_at lw_m3 83 rfl) rfl
theorem q603 : (Jvm.Cond.instanceMethod ({ cls := "java/lang/AbstractStringBuilder", name := "isLatin1", desc := "()Z" } : Jvm.MethodName)) ∈ lw_all := lw_g (lw_at lw_m3 84 rfl) rfl
theorem q604 : (Jvm.Cond.sameMethod "java/lang/AbstractStringBuilder" "java/lang/AbstractStringBuilder" "isLatin1" "()Z") ∈ lw_all := lw_g (lw_at lw_m3 85 rfl) rfl
theorem q606 : (Jvm.Cond.code ({ cls := "java/lang/AbstractStringBuilder", name := "isLatin1", desc := "()Z" } : Jvm.MethodName) prog_3_method_68_code (1 : Nat) (Option.some Jvm.ClassFile.FieldType.boolean)) ∈ lw_all := lw_g (lw_at lw_m3 87 rfl) rfl
theorem q607 : (Jvm.Cond.methodLink "java/lang/AbstractStringBuilder" (226 : Nat) ({ cls := "java/lang/StringUTF16", name := "putCharsAt", desc := "([BICCCC)I" } : Jvm.MethodName)) ∈ lw_all := lw_g (lw_at lw_m3 88 rfl) rfl
theorem q631 : (Jvm.Cond.methodLink "java/lang/AbstractStringBuilder" (32 : Nat) ({ cls := "java/lang/String", name := "length", desc := "()I" } : Jvm.MethodName)) ∈ lw_all := lw_g (lw_at lw_m3 112 rfl) rfl
theorem q640 : (Jvm.Cond.methodLink "java/lang/AbstractStringBuilder" (208 : Nat) ({ cls := "java/lang/AbstractStringBuilder", name := "putStringAt", desc := "(ILjava/lang/String;)V" } : Jvm.MethodName)) ∈ lw_all := lw_g (lw_at lw_m3 121 rfl) rfl
theorem q641 : (Jvm.Cond.privateMethod ({ cls := "java/lang/AbstractStringBuilder", name := "putStringAt", desc := "(ILjava/lang/String;)V" } : Jvm.MethodName)) ∈ lw_tbl := lw_at lw_m3 122 rfl
theorem q642 : (Jvm.Cond.instanceMethod ({ cls := "java/lang/AbstractStringBuilder", name := "putStringAt", desc := "(ILjava/lang/String;)V" } : Jvm.MethodName)) ∈ lw_all := lw_g (lw_at lw_m3 123 rfl) rfl
theorem q643 : (Jvm.Cond.code ({ cls := "java/lang/AbstractStringBuilder", name := "putStringAt", desc := "(ILjava/lang/String;)V" } : Jvm.MethodName) prog_3_method_73_code (3 : Nat) (Option.none : Option Jvm.ClassFile.FieldType)) ∈ lw_all := lw_g (lw_at lw_m3 124 rfl) rfl
theorem q644 : (Jvm.Cond.methodLink "java/lang/AbstractStringBuilder" (397 : Nat) ({ cls := "java/lang/AbstractStringBuilder", name := "inflateIfNeededFor", desc := "(Ljava/lang/String;)V" } : Jvm.MethodName)) ∈ lw_all := lw_g (lw_at lw_m3 125 rfl) rfl
theorem q645 : (Jvm.Cond.privateMethod ({ cls := "java/lang/AbstractStringBuilder", name := "inflateIfNeededFor", desc := "(Ljava/lang/String;)V" } : Jvm.MethodName)) ∈ lw_tbl := lw_at lw_m3 126 rfl
theorem q646 : (Jvm.Cond.instanceMethod ({ cls := "java/lang/AbstractStringBuilder", name := "inflateIfNeededFor", desc := "(Ljava/lang/String;)V" } : Jvm.MethodName)) ∈ lw_all := lw_g (lw_at lw_m3 127 rfl) rfl
theorem q647 : (Jvm.Cond.code ({ cls := "java/lang/AbstractStringBuilder", name := "inflateIfNeededFor", desc := "(Ljava/lang/String;)V" } : Jvm.MethodName) prog_3_method_71_code (2 : Nat) (Option.none : Option Jvm.ClassFile.FieldType)) ∈ lw_all := lw_g (lw_at lw_m3 128 rfl) rfl
theorem q648 : (Jvm.Cond.methodLink "java/lang/AbstractStringBuilder" (40 : Nat) ({ cls := "java/lang/String", name := "coder", desc := "()B" } : Jvm.MethodName)) ∈ lw_all := lw_g (lw_at lw_m3 129 rfl) rfl
theorem q649 : (Jvm.Cond.methodLink "java/lang/AbstractStringBuilder" (195 : Nat) ({ cls := "java/lang/AbstractStringBuilder", name := "inflate", desc := "()V" } : Jvm.MethodName)) ∈ lw_all := lw_g (lw_at lw_m3 130 rfl) rfl
theorem q650 : (Jvm.Cond.privateMethod ({ cls := "java/lang/AbstractStringBuilder", name := "inflate", desc := "()V" } : Jvm.MethodName)) ∈ lw_tbl := lw_at lw_m3 131 rfl
theorem q651 : (Jvm.Cond.instanceMethod ({ cls := "java/lang/AbstractStringBuilder", name := "inflate", desc := "()V" } : Jvm.MethodName)) ∈ lw_all := lw_g (lw_at lw_m3 132 rfl) rfl
theorem q652 : (Jvm.Cond.code ({ cls := "java/lang/AbstractStringBuilder", name := "inflate", desc := "()V" } : Jvm.MethodName) prog_3_method_11_code (2 : Nat) (Option.none : Option Jvm.ClassFile.FieldType)) ∈ lw_all := lw_g (lw_at lw_m3 133 rfl) rfl
theorem q653 : (Jvm.Cond.methodLink "java/lang/AbstractStringBuilder" (125 : Nat) ({ cls := "java/lang/StringLatin1", name := "inflate", desc := "([BI[BII)V" } : Jvm.MethodName)) ∈ lw_all := lw_g (lw_at lw_m3 134 rfl) rfl
theorem q668 : (Jvm.Cond.methodLink "java/lang/AbstractStringBuilder" (399 : Nat) ({ cls := "java/lang/String", name := "getBytes", desc := "([BIB)V" } : Jvm.MethodName)) ∈ lw_all := lw_g (lw_at lw_m3 149 rfl) rfl
theorem q679 : (Jvm.Cond.instanceMethod ({ cls := "java/lang/AbstractStringBuilder", name := "append", desc := "(I)Ljava/lang/AbstractStringBuilder;" } : Jvm.MethodName)) ∈ lw_all := lw_g (lw_at lw_m3 160 rfl) rfl
theorem q680 : (Jvm.Cond.code ({ cls := "java/lang/AbstractStringBuilder", name := "append", desc := "(I)Ljava/lang/AbstractStringBuilder;" } : Jvm.MethodName) prog_3_method_32_code (4 : Nat) (Option.some (Jvm.ClassFile.FieldType.object "java/lang/AbstractStringBuilder"))) ∈ lw_all := lw_g (lw_at lw_m3 161 rfl) rfl
theorem q681 : (Jvm.Cond.methodLink "java/lang/AbstractStringBuilder" (245 : Nat) ({ cls := "java/lang/Integer", name := "stringSize", desc := "(I)I" } : Jvm.MethodName)) ∈ lw_all := lw_g (lw_at lw_m3 162 rfl) rfl
theorem q684 : (Jvm.Cond.methodLink "java/lang/AbstractStringBuilder" (248 : Nat) ({ cls := "java/lang/Integer", name := "getChars", desc := "(II[B)I" } : Jvm.MethodName)) ∈ lw_all := lw_g (lw_at lw_m3 165 rfl) rfl
theorem q691 : (Jvm.Cond.methodLink "java/lang/AbstractStringBuilder" (251 : Nat) ({ cls := "java/lang/StringUTF16", name := "getChars", desc := "(III[B)I" } : Jvm.MethodName)) ∈ lw_all := lw_g (lw_at lw_m3 172 rfl) rfl
theorem q712 : (Jvm.Cond.instanceMethod ({ cls := "java/lang/AbstractStringBuilder", name := "getValue", desc := "()[B" } : Jvm.MethodName)) ∈ lw_all := lw_g (lw_at lw_m3 193 rfl) rfl
theorem q713 : (Jvm.Cond.sameMethod "java/lang/AbstractStringBuilder" "java/lang/AbstractStringBuilder" "getValue" "()[B") ∈ lw_all := lw_g (lw_at lw_m3 194 rfl) rfl
theorem q715 : (Jvm.Cond.code ({ cls := "java/lang/AbstractStringBuilder", name := "getValue", desc := "()[B" } : Jvm.MethodName) prog_3_method_64_code (1 : Nat) (Option.some (Jvm.ClassFile.FieldType.array Jvm.ClassFile.FieldType.byte))) ∈ lw_all := lw_g (lw_at lw_m3 196 rfl) rfl
theorem q717 : (Jvm.Cond.instanceMethod ({ cls := "java/lang/AbstractStringBuilder", name := "length", desc := "()I" } : Jvm.MethodName)) ∈ lw_all := lw_g (lw_at lw_m3 198 rfl) rfl
theorem q718 : (Jvm.Cond.sameMethod "java/lang/AbstractStringBuilder" "java/lang/AbstractStringBuilder" "length" "()I") ∈ lw_all := lw_g (lw_at lw_m3 199 rfl) rfl
theorem q723 : (Jvm.Cond.code ({ cls := "java/lang/AbstractStringBuilder", name := "length", desc := "()I" } : Jvm.MethodName) prog_3_method_6_code (1 : Nat) (Option.some Jvm.ClassFile.FieldType.int)) ∈ lw_all := lw_g (lw_at lw_m3 204 rfl) rfl
theorem q988 : (Jvm.Cond.instanceMethod ({ cls := "java/lang/AbstractStringBuilder", name := "append", desc := "(C)Ljava/lang/AbstractStringBuilder;" } : Jvm.MethodName)) ∈ lw_all := lw_g (lw_at lw_m4 229 rfl) rfl
theorem q989 : (Jvm.Cond.code ({ cls := "java/lang/AbstractStringBuilder", name := "append", desc := "(C)Ljava/lang/AbstractStringBuilder;" } : Jvm.MethodName) prog_3_method_31_code (2 : Nat) (Option.some (Jvm.ClassFile.FieldType.object "java/lang/AbstractStringBuilder"))) ∈ lw_all := lw_g (lw_at lw_m4 230 rfl) rfl
theorem q990 : (Jvm.Cond.methodLink "java/lang/AbstractStringBuilder" (191 : Nat) ({ cls := "java/lang/StringLatin1", name := "canEncode", desc := "(C)Z" } : Jvm.MethodName)) ∈ lw_all := lw_g (lw_at lw_m4 231 rfl) rfl
theorem q993 : (Jvm.Cond.methodLink "java/lang/AbstractStringBuilder" (197 : Nat) ({ cls := "java/lang/StringUTF16", name := "putCharSB", desc := "([BII)V" } : Jvm.MethodName)) ∈ lw_all := lw_g (lw_at lw_m4 234 rfl) rfl
theorem q1010 : (Jvm.Cond.instanceMethod ({ cls := "java/lang/AbstractStringBuilder", name := "append", desc := "(J)Ljava/lang/AbstractStringBuilder;" } : Jvm.MethodName)) ∈ lw_all := lw_g (lw_at lw_m5 11 rfl) rfl
theorem q1011 : (Jvm.Cond.code ({ cls := "java/lang/AbstractStringBuilder", name := "append", desc := "(J)Ljava/lang/AbstractStringBuilder;" } : Jvm.MethodName) prog_3_method_33_code (5 : Nat) (Option.some (Jvm.ClassFile.FieldType.object "java/lang/AbstractStringBuilder"))) ∈ lw_all := lw_g (lw_at lw_m5 12 rfl) rfl
theorem q1012 : (Jvm.Cond.methodLink "java/lang/AbstractStringBuilder" (254 : Nat) ({ cls := "java/lang/Long", name := "stringSize", desc := "(J)I" } : Jvm.MethodName)) ∈ lw_all := lw_g (lw_at lw_m5 13 rfl) rfl
theorem q1017 : (Jvm.Cond.methodLink "java/lang/AbstractStringBuilder" (259 : Nat) ({ cls := "java/lang/Long", name := "getChars", desc := "(JI[B)I" } : Jvm.MethodName)) ∈ lw_all := lw_g (lw_at lw_m5 18 rfl) rfl
theorem q1024 : (Jvm.Cond.methodLink "java/lang/AbstractStringBuilder" (262 : Nat) ({ cls := "java/lang/StringUTF16", name := "getChars", desc := "(JII[B)I" } : Jvm.MethodName)) ∈ lw_all := lw_g (lw_at lw_m5 25 rfl) rfl
theorem q1774 : (Jvm.Cond.sameMethod "java/lang/AbstractStringBuilder" "java/lang/AbstractStringBuilder" "append" "(Ljava/lang/String;)Ljava/lang/AbstractStringBuilder;") ∈ lw_all := lw_g (lw_at lw_m8 55 rfl) rfl
theorem q1775 : (Jvm.Cond.sameMethod "java/lang/AbstractStringBuilder" "java/lang/AbstractStringBuilder" "appendNull" "()Ljava/lang/AbstractStringBuilder;") ∈ lw_all := lw_g (lw_at lw_m8 56 rfl) rfl
theorem q1776 : (Jvm.Cond.sameMethod "java/lang/AbstractStringBuilder" "java/lang/AbstractStringBuilder" "ensureCapacityInternal" "(I)V") ∈ lw_all := lw_g (lw_at lw_m8 57 rfl) rfl
theorem q1777 : (Jvm.Cond.sameMethod "java/lang/AbstractStringBuilder" "java/lang/AbstractStringBuilder" "newCapacity" "(I)I") ∈ lw_all := lw_g (lw_at lw_m8 58 rfl) rfl
theorem q1778 : (Jvm.Cond.sameMethod "java/lang/AbstractStringBuilder" "java/lang/AbstractStringBuilder" "putStringAt" "(ILjava/lang/String;)V") ∈ lw_all := lw_g (lw_at lw_m8 59 rfl) rfl
theorem q1779 : (Jvm.Cond.sameMethod "java/lang/AbstractStringBuilder" "java/lang/AbstractStringBuilder" "inflateIfNeededFor" "(Ljava/lang/String;)V") ∈ lw_all := lw_g (lw_at lw_m8 60 rfl) rfl
theorem q1780 : (Jvm.Cond.sameMethod "java/lang/AbstractStringBuilder" "java/lang/AbstractStringBuilder" "inflate" "()V") ∈ lw_all := lw_g (lw_at lw_m8 61 rfl) rfl
theorem q1781 : (Jvm.Cond.sameMethod "java/lang/AbstractStringBuilder" "java/lang/AbstractStringBuilder" "append" "(I)Ljava/lang/AbstractStringBuilder;") ∈ lw_all := lw_g (lw_at lw_m8 62 rfl) rfl
theorem q1782 : (Jvm.Cond.sameMethod "java/lang/AbstractStringBuilder" "java/lang/AbstractStringBuilder" "append" "(C)Ljava/lang/AbstractStringBuilder;") ∈ lw_all := lw_g (lw_at lw_m8 63 rfl) rfl
theorem q1783 : (Jvm.Cond.sameMethod "java/lang/AbstractStringBuilder" "java/lang/AbstractStringBuilder" "append" "(J)Ljava/lang/AbstractStringBuilder;") ∈ lw_all := lw_g (lw_at lw_m8 64 rfl) rfl
/-! java/lang/StringBuilder -/
set_option maxRecDepth 100000
def RJ22 : String := "java/lang/StringBuilder"
def TJ22 : u_T := fun k => match k with
  | 0 => ("java/lang/AbstractStringBuilder", "value", "[B", false)
  | 1 => ("java/lang/AbstractStringBuilder", "coder", "B", false)
  | 2 => ("java/lang/AbstractStringBuilder", "maybeLatin1", "Z", false)
  | _ => ("java/lang/AbstractStringBuilder", "count", "I", false)
def tyJ22 : Nat → FieldType := fun k => match k with
  | 0 => .array .byte
  | 1 => .byte
  | 2 => .boolean
  | _ => .int
abbrev wsJ220 : List Cond := u_ws RJ22 TJ22 4
theorem nmJ22 : ∀ a, a < 4 → ∀ b, b < 4 → a ≠ b → (TJ22 a).2.1 ≠ (TJ22 b).2.1 := by decide +kernel
theorem tyJ22_ok : ∀ k, k < 4 → parseFieldDescriptor (TJ22 k).2.2.1 = some (tyJ22 k) := by decide +kernel
abbrev cJ22_init : ByteArray := prog_27_method_1_code
def yJ22_init : MethodName := ⟨RJ22, "<init>", "()V"⟩
def dkwJ22_init_0 : List UInt8 := [42, 16, 16, 183, 0, 1, 177]
abbrev dktJ22_init_0 : List UInt8 := dkwJ22_init_0 ++ []
theorem dksJ22_init_0 : cJ22_init.data.toList.drop 0 = dktJ22_init_0 := by decide +kernel
theorem dJ22_init_0 : decode cJ22_init 0 = .ok (.aload_n 0, 1) := dk_42 (dk_at dksJ22_init_0 0 rfl rfl)
theorem dJ22_init_1 : decode cJ22_init 1 = .ok (.bipush 16, 2) := dk_16 16 (dk_at dksJ22_init_0 1 rfl rfl)
theorem dJ22_init_3 : decode cJ22_init 3 = .ok (.invokespecial 1, 3) := dk_183 0 1 (dk_at dksJ22_init_0 3 rfl rfl)
theorem dJ22_init_6 : decode cJ22_init 6 = .ok (.return_, 1) := dk_177 (dk_at dksJ22_init_0 6 rfl rfl)
abbrev cJ22_append : ByteArray := prog_27_method_7_code
def yJ22_append : MethodName := ⟨RJ22, "append", "(Ljava/lang/String;)Ljava/lang/StringBuilder;"⟩
def dkwJ22_append_0 : List UInt8 := [42, 43, 183, 0, 29, 87, 42, 176]
abbrev dktJ22_append_0 : List UInt8 := dkwJ22_append_0 ++ []
theorem dksJ22_append_0 : cJ22_append.data.toList.drop 0 = dktJ22_append_0 := by decide +kernel
theorem dJ22_append_0 : decode cJ22_append 0 = .ok (.aload_n 0, 1) := dk_42 (dk_at dksJ22_append_0 0 rfl rfl)
theorem dJ22_append_1 : decode cJ22_append 1 = .ok (.aload_n 1, 1) := dk_43 (dk_at dksJ22_append_0 1 rfl rfl)
theorem dJ22_append_2 : decode cJ22_append 2 = .ok (.invokespecial 29, 3) := dk_183 0 29 (dk_at dksJ22_append_0 2 rfl rfl)
theorem dJ22_append_5 : decode cJ22_append 5 = .ok (.pop, 1) := dk_87 (dk_at dksJ22_append_0 5 rfl rfl)
theorem dJ22_append_6 : decode cJ22_append 6 = .ok (.aload_n 0, 1) := dk_42 (dk_at dksJ22_append_0 6 rfl rfl)
theorem dJ22_append_7 : decode cJ22_append 7 = .ok (.areturn, 1) := dk_176 (dk_at dksJ22_append_0 7 rfl rfl)
abbrev cJ22_append_2 : ByteArray := prog_27_method_15_code
def yJ22_append_2 : MethodName := ⟨RJ22, "append", "(I)Ljava/lang/StringBuilder;"⟩
def dkwJ22_append_2_0 : List UInt8 := [42, 27, 183, 0, 53, 87, 42, 176]
abbrev dktJ22_append_2_0 : List UInt8 := dkwJ22_append_2_0 ++ []
theorem dksJ22_append_2_0 : cJ22_append_2.data.toList.drop 0 = dktJ22_append_2_0 := by decide +kernel
theorem dJ22_append_2_0 : decode cJ22_append_2 0 = .ok (.aload_n 0, 1) := dk_42 (dk_at dksJ22_append_2_0 0 rfl rfl)
theorem dJ22_append_2_1 : decode cJ22_append_2 1 = .ok (.iload_n 1, 1) := dk_27 (dk_at dksJ22_append_2_0 1 rfl rfl)
theorem dJ22_append_2_2 : decode cJ22_append_2 2 = .ok (.invokespecial 53, 3) := dk_183 0 53 (dk_at dksJ22_append_2_0 2 rfl rfl)
theorem dJ22_append_2_5 : decode cJ22_append_2 5 = .ok (.pop, 1) := dk_87 (dk_at dksJ22_append_2_0 5 rfl rfl)
theorem dJ22_append_2_6 : decode cJ22_append_2 6 = .ok (.aload_n 0, 1) := dk_42 (dk_at dksJ22_append_2_0 6 rfl rfl)
theorem dJ22_append_2_7 : decode cJ22_append_2 7 = .ok (.areturn, 1) := dk_176 (dk_at dksJ22_append_2_0 7 rfl rfl)
abbrev cJ22_toString : ByteArray := prog_27_method_42_code
def yJ22_toString : MethodName := ⟨RJ22, "toString", "()Ljava/lang/String;"⟩
def dkwJ22_toString_0 : List UInt8 := [187, 0, 18, 89, 42, 183, 0, 137, 176]
abbrev dktJ22_toString_0 : List UInt8 := dkwJ22_toString_0 ++ []
theorem dksJ22_toString_0 : cJ22_toString.data.toList.drop 0 = dktJ22_toString_0 := by decide +kernel
theorem dJ22_toString_0 : decode cJ22_toString 0 = .ok (.new 18, 3) := dk_187 0 18 (dk_at dksJ22_toString_0 0 rfl rfl)
theorem dJ22_toString_3 : decode cJ22_toString 3 = .ok (.dup, 1) := dk_89 (dk_at dksJ22_toString_0 3 rfl rfl)
theorem dJ22_toString_4 : decode cJ22_toString 4 = .ok (.aload_n 0, 1) := dk_42 (dk_at dksJ22_toString_0 4 rfl rfl)
theorem dJ22_toString_5 : decode cJ22_toString 5 = .ok (.invokespecial 137, 3) := dk_183 0 137 (dk_at dksJ22_toString_0 5 rfl rfl)
theorem dJ22_toString_8 : decode cJ22_toString 8 = .ok (.areturn, 1) := dk_176 (dk_at dksJ22_toString_0 8 rfl rfl)
abbrev cJ22_length : ByteArray := prog_27_method_93_code
def yJ22_length : MethodName := ⟨RJ22, "length", "()I"⟩
theorem dJ22_length_0 : decode cJ22_length 0 = .ok (.aload_n 0, 1) := by decide +kernel
theorem dJ22_length_1 : decode cJ22_length 1 = .ok (.invokespecial 343, 3) := by decide +kernel
theorem dJ22_length_4 : decode cJ22_length 4 = .ok (.ireturn, 1) := by decide +kernel
abbrev cJ22_append_3 : ByteArray := prog_27_method_14_code
def yJ22_append_3 : MethodName := ⟨RJ22, "append", "(C)Ljava/lang/StringBuilder;"⟩
def dkwJ22_append_3_0 : List UInt8 := [42, 27, 183, 0, 50, 87, 42, 176]
abbrev dktJ22_append_3_0 : List UInt8 := dkwJ22_append_3_0 ++ []
theorem dksJ22_append_3_0 : cJ22_append_3.data.toList.drop 0 = dktJ22_append_3_0 := by decide +kernel
theorem dJ22_append_3_0 : decode cJ22_append_3 0 = .ok (.aload_n 0, 1) := dk_42 (dk_at dksJ22_append_3_0 0 rfl rfl)
theorem dJ22_append_3_1 : decode cJ22_append_3 1 = .ok (.iload_n 1, 1) := dk_27 (dk_at dksJ22_append_3_0 1 rfl rfl)
theorem dJ22_append_3_2 : decode cJ22_append_3 2 = .ok (.invokespecial 50, 3) := dk_183 0 50 (dk_at dksJ22_append_3_0 2 rfl rfl)
theorem dJ22_append_3_5 : decode cJ22_append_3 5 = .ok (.pop, 1) := dk_87 (dk_at dksJ22_append_3_0 5 rfl rfl)
theorem dJ22_append_3_6 : decode cJ22_append_3 6 = .ok (.aload_n 0, 1) := dk_42 (dk_at dksJ22_append_3_0 6 rfl rfl)
theorem dJ22_append_3_7 : decode cJ22_append_3 7 = .ok (.areturn, 1) := dk_176 (dk_at dksJ22_append_3_0 7 rfl rfl)
abbrev cJ22_append_4 : ByteArray := prog_27_method_16_code
def yJ22_append_4 : MethodName := ⟨RJ22, "append", "(J)Ljava/lang/StringBuilder;"⟩
def dkwJ22_append_4_0 : List UInt8 := [42, 31, 183, 0, 56, 87, 42, 176]
abbrev dktJ22_append_4_0 : List UInt8 := dkwJ22_append_4_0 ++ []
theorem dksJ22_append_4_0 : cJ22_append_4.data.toList.drop 0 = dktJ22_append_4_0 := by decide +kernel
theorem dJ22_append_4_0 : decode cJ22_append_4 0 = .ok (.aload_n 0, 1) := dk_42 (dk_at dksJ22_append_4_0 0 rfl rfl)
theorem dJ22_append_4_1 : decode cJ22_append_4 1 = .ok (.lload_n 1, 1) := dk_31 (dk_at dksJ22_append_4_0 1 rfl rfl)
theorem dJ22_append_4_2 : decode cJ22_append_4 2 = .ok (.invokespecial 56, 3) := dk_183 0 56 (dk_at dksJ22_append_4_0 2 rfl rfl)
theorem dJ22_append_4_5 : decode cJ22_append_4 5 = .ok (.pop, 1) := dk_87 (dk_at dksJ22_append_4_0 5 rfl rfl)
theorem dJ22_append_4_6 : decode cJ22_append_4 6 = .ok (.aload_n 0, 1) := dk_42 (dk_at dksJ22_append_4_0 6 rfl rfl)
theorem dJ22_append_4_7 : decode cJ22_append_4 7 = .ok (.areturn, 1) := dk_176 (dk_at dksJ22_append_4_0 7 rfl rfl)
theorem q64 : (Jvm.Cond.initialized "java/lang/StringBuilder") ∈ lw_all := lw_g (lw_at lw_m1 25 rfl) rfl
theorem q535 : (Jvm.Cond.instantiable "java/lang/StringBuilder" (4 : Nat)) ∈ lw_all := lw_g (lw_at lw_m3 16 rfl) rfl
theorem q537 : (Jvm.Cond.instanceMethod ({ cls := "java/lang/StringBuilder", name := "<init>", desc := "()V" } : Jvm.MethodName)) ∈ lw_all := lw_g (lw_at lw_m3 18 rfl) rfl
theorem q538 : (Jvm.Cond.code ({ cls := "java/lang/StringBuilder", name := "<init>", desc := "()V" } : Jvm.MethodName) prog_27_method_1_code (1 : Nat) (Option.none : Option Jvm.ClassFile.FieldType)) ∈ lw_all := lw_g (lw_at lw_m3 19 rfl) rfl
theorem q539 : (Jvm.Cond.methodLink "java/lang/StringBuilder" (1 : Nat) ({ cls := "java/lang/AbstractStringBuilder", name := "<init>", desc := "(I)V" } : Jvm.MethodName)) ∈ lw_all := lw_g (lw_at lw_m3 20 rfl) rfl
theorem q556 : (Jvm.Cond.lays "java/lang/StringBuilder" "java/lang/AbstractStringBuilder" "value" "[B") ∈ lw_all := lw_g (lw_at lw_m3 37 rfl) rfl
theorem q558 : (Jvm.Cond.lays "java/lang/StringBuilder" "java/lang/AbstractStringBuilder" "coder" "B") ∈ lw_all := lw_g (lw_at lw_m3 39 rfl) rfl
theorem q560 : (Jvm.Cond.lays "java/lang/StringBuilder" "java/lang/AbstractStringBuilder" "maybeLatin1" "Z") ∈ lw_all := lw_g (lw_at lw_m3 41 rfl) rfl
theorem q562 : (Jvm.Cond.lays "java/lang/StringBuilder" "java/lang/AbstractStringBuilder" "count" "I") ∈ lw_all := lw_g (lw_at lw_m3 43 rfl) rfl
theorem q564 : (Jvm.Cond.superclass "java/lang/StringBuilder" "java/lang/AbstractStringBuilder") ∈ lw_all := lw_g (lw_at lw_m3 45 rfl) rfl
theorem q567 : (Jvm.Cond.instanceMethod ({ cls := "java/lang/StringBuilder", name := "append", desc := "(Ljava/lang/String;)Ljava/lang/StringBuilder;" } : Jvm.MethodName)) ∈ lw_all := lw_g (lw_at lw_m3 48 rfl) rfl
theorem q568 : (Jvm.Cond.selects "java/lang/StringBuilder" ({ cls := "java/lang/StringBuilder", name := "append", desc := "(Ljava/lang/String;)Ljava/lang/StringBuilder;" } : Jvm.MethodName) ({ cls := "java/lang/StringBuilder", name := "append", desc := "(Ljava/lang/String;)Ljava/lang/StringBuilder;" } : Jvm.MethodName)) ∈ lw_all := lw_g (lw_at lw_m3 49 rfl) rfl
theorem q569 : (Jvm.Cond.code ({ cls := "java/lang/StringBuilder", name := "append", desc := "(Ljava/lang/String;)Ljava/lang/StringBuilder;" } : Jvm.MethodName) prog_27_method_7_code (2 : Nat) (Option.some (Jvm.ClassFile.FieldType.object "java/lang/StringBuilder"))) ∈ lw_all := lw_g (lw_at lw_m3 50 rfl) rfl
theorem q570 : (Jvm.Cond.methodLink "java/lang/StringBuilder" (29 : Nat) ({ cls := "java/lang/AbstractStringBuilder", name := "append", desc := "(Ljava/lang/String;)Ljava/lang/AbstractStringBuilder;" } : Jvm.MethodName)) ∈ lw_all := lw_g (lw_at lw_m3 51 rfl) rfl
theorem q605 : (Jvm.Cond.selects "java/lang/StringBuilder" ({ cls := "java/lang/AbstractStringBuilder", name := "isLatin1", desc := "()Z" } : Jvm.MethodName) ({ cls := "java/lang/AbstractStringBuilder", name := "isLatin1", desc := "()Z" } : Jvm.MethodName)) ∈ lw_all := lw_g (lw_at lw_m3 86 rfl) rfl
theorem q675 : (Jvm.Cond.instanceMethod ({ cls := "java/lang/StringBuilder", name := "append", desc := "(I)Ljava/lang/StringBuilder;" } : Jvm.MethodName)) ∈ lw_all := lw_g (lw_at lw_m3 156 rfl) rfl
theorem q676 : (Jvm.Cond.selects "java/lang/StringBuilder" ({ cls := "java/lang/StringBuilder", name := "append", desc := "(I)Ljava/lang/StringBuilder;" } : Jvm.MethodName) ({ cls := "java/lang/StringBuilder", name := "append", desc := "(I)Ljava/lang/StringBuilder;" } : Jvm.MethodName)) ∈ lw_all := lw_g (lw_at lw_m3 157 rfl) rfl
theorem q677 : (Jvm.Cond.code ({ cls := "java/lang/StringBuilder", name := "append", desc := "(I)Ljava/lang/StringBuilder;" } : Jvm.MethodName) prog_27_method_15_code (2 : Nat) (Option.some (Jvm.ClassFile.FieldType.object "java/lang/StringBuilder"))) ∈ lw_all := lw_g (lw_at lw_m3 158 rfl) rfl
theorem q678 : (Jvm.Cond.methodLink "java/lang/StringBuilder" (53 : Nat) ({ cls := "java/lang/AbstractStringBuilder", name := "append", desc := "(I)Ljava/lang/AbstractStringBuilder;" } : Jvm.MethodName)) ∈ lw_all := lw_g (lw_at lw_m3 159 rfl) rfl
theorem q700 : (Jvm.Cond.instanceMethod ({ cls := "java/lang/StringBuilder", name := "toString", desc := "()Ljava/lang/String;" } : Jvm.MethodName)) ∈ lw_all := lw_g (lw_at lw_m3 181 rfl) rfl
theorem q701 : (Jvm.Cond.selects "java/lang/StringBuilder" ({ cls := "java/lang/StringBuilder", name := "toString", desc := "()Ljava/lang/String;" } : Jvm.MethodName) ({ cls := "java/lang/StringBuilder", name := "toString", desc := "()Ljava/lang/String;" } : Jvm.MethodName)) ∈ lw_all := lw_g (lw_at lw_m3 182 rfl) rfl
theorem q702 : (Jvm.Cond.code ({ cls := "java/lang/StringBuilder", name := "toString", desc := "()Ljava/lang/String;" } : Jvm.MethodName) prog_27_method_42_code (1 : Nat) (Option.some (Jvm.ClassFile.FieldType.object "java/lang/String"))) ∈ lw_all := lw_g (lw_at lw_m3 183 rfl) rfl
theorem q703 : (Jvm.Cond.classLink "java/lang/StringBuilder" (18 : Nat) "java/lang/String") ∈ lw_all := lw_g (lw_at lw_m3 184 rfl) rfl
theorem q704 : (Jvm.Cond.methodLink "java/lang/StringBuilder" (137 : Nat) ({ cls := "java/lang/String", name := "<init>", desc := "(Ljava/lang/StringBuilder;)V" } : Jvm.MethodName)) ∈ lw_all := lw_g (lw_at lw_m3 185 rfl) rfl
theorem q714 : (Jvm.Cond.selects "java/lang/StringBuilder" ({ cls := "java/lang/AbstractStringBuilder", name := "getValue", desc := "()[B" } : Jvm.MethodName) ({ cls := "java/lang/AbstractStringBuilder", name := "getValue", desc := "()[B" } : Jvm.MethodName)) ∈ lw_all := lw_g (lw_at lw_m3 195 rfl) rfl
theorem q719 : (Jvm.Cond.selects "java/lang/StringBuilder" ({ cls := "java/lang/AbstractStringBuilder", name := "length", desc := "()I" } : Jvm.MethodName) ({ cls := "java/lang/StringBuilder", name := "length", desc := "()I" } : Jvm.MethodName)) ∈ lw_all := lw_g (lw_at lw_m3 200 rfl) rfl
theorem q720 : (Jvm.Cond.instanceMethod ({ cls := "java/lang/StringBuilder", name := "length", desc := "()I" } : Jvm.MethodName)) ∈ lw_all := lw_g (lw_at lw_m3 201 rfl) rfl
theorem q721 : (Jvm.Cond.code ({ cls := "java/lang/StringBuilder", name := "length", desc := "()I" } : Jvm.MethodName) prog_27_method_93_code (1 : Nat) (Option.some Jvm.ClassFile.FieldType.int)) ∈ lw_all := lw_g (lw_at lw_m3 202 rfl) rfl
theorem q722 : (Jvm.Cond.methodLink "java/lang/StringBuilder" (343 : Nat) ({ cls := "java/lang/AbstractStringBuilder", name := "length", desc := "()I" } : Jvm.MethodName)) ∈ lw_all := lw_g (lw_at lw_m3 203 rfl) rfl
theorem q984 : (Jvm.Cond.instanceMethod ({ cls := "java/lang/StringBuilder", name := "append", desc := "(C)Ljava/lang/StringBuilder;" } : Jvm.MethodName)) ∈ lw_all := lw_g (lw_at lw_m4 225 rfl) rfl
theorem q985 : (Jvm.Cond.selects "java/lang/StringBuilder" ({ cls := "java/lang/StringBuilder", name := "append", desc := "(C)Ljava/lang/StringBuilder;" } : Jvm.MethodName) ({ cls := "java/lang/StringBuilder", name := "append", desc := "(C)Ljava/lang/StringBuilder;" } : Jvm.MethodName)) ∈ lw_all := lw_g (lw_at lw_m4 226 rfl) rfl
theorem q986 : (Jvm.Cond.code ({ cls := "java/lang/StringBuilder", name := "append", desc := "(C)Ljava/lang/StringBuilder;" } : Jvm.MethodName) prog_27_method_14_code (2 : Nat) (Option.some (Jvm.ClassFile.FieldType.object "java/lang/StringBuilder"))) ∈ lw_all := lw_g (lw_at lw_m4 227 rfl) rfl
theorem q987 : (Jvm.Cond.methodLink "java/lang/StringBuilder" (50 : Nat) ({ cls := "java/lang/AbstractStringBuilder", name := "append", desc := "(C)Ljava/lang/AbstractStringBuilder;" } : Jvm.MethodName)) ∈ lw_all := lw_g (lw_at lw_m4 228 rfl) rfl
theorem q1006 : (Jvm.Cond.instanceMethod ({ cls := "java/lang/StringBuilder", name := "append", desc := "(J)Ljava/lang/StringBuilder;" } : Jvm.MethodName)) ∈ lw_all := lw_g (lw_at lw_m5 7 rfl) rfl
theorem q1007 : (Jvm.Cond.selects "java/lang/StringBuilder" ({ cls := "java/lang/StringBuilder", name := "append", desc := "(J)Ljava/lang/StringBuilder;" } : Jvm.MethodName) ({ cls := "java/lang/StringBuilder", name := "append", desc := "(J)Ljava/lang/StringBuilder;" } : Jvm.MethodName)) ∈ lw_all := lw_g (lw_at lw_m5 8 rfl) rfl
theorem q1008 : (Jvm.Cond.code ({ cls := "java/lang/StringBuilder", name := "append", desc := "(J)Ljava/lang/StringBuilder;" } : Jvm.MethodName) prog_27_method_16_code (3 : Nat) (Option.some (Jvm.ClassFile.FieldType.object "java/lang/StringBuilder"))) ∈ lw_all := lw_g (lw_at lw_m5 9 rfl) rfl
theorem q1009 : (Jvm.Cond.methodLink "java/lang/StringBuilder" (56 : Nat) ({ cls := "java/lang/AbstractStringBuilder", name := "append", desc := "(J)Ljava/lang/AbstractStringBuilder;" } : Jvm.MethodName)) ∈ lw_all := lw_g (lw_at lw_m5 10 rfl) rfl
theorem q1448 : (Jvm.Cond.selects "java/lang/StringBuilder" ({ cls := "java/lang/Object", name := "equals", desc := "(Ljava/lang/Object;)Z" } : Jvm.MethodName) ({ cls := "java/lang/Object", name := "equals", desc := "(Ljava/lang/Object;)Z" } : Jvm.MethodName)) ∈ lw_all := lw_g (lw_at lw_m6 209 rfl) rfl
theorem in_J22 : ∀ w ∈ wsJ220, w ∈ lw_all := lw_in wsJ220 [556, 558, 560, 562] (by decide +kernel) (by decide +kernel)
/-! java/lang/StringUTF16 -/
set_option maxRecDepth 100000
def RJ23 : String := "java/lang/StringUTF16"
theorem q65 : (Jvm.Cond.initialized "java/lang/StringUTF16") ∈ lw_all := lw_g (lw_at lw_m1 26 rfl) rfl
theorem q546 : (Jvm.Cond.static ({ cls := "java/lang/StringUTF16", name := "newBytesFor", desc := "(I)[B" } : Jvm.MethodName)) ∈ lw_all := lw_g (lw_at lw_m3 27 rfl) rfl
theorem q547 : (Jvm.Cond.code ({ cls := "java/lang/StringUTF16", name := "newBytesFor", desc := "(I)[B" } : Jvm.MethodName) prog_29_method_2_code (1 : Nat) (Option.some (Jvm.ClassFile.FieldType.array Jvm.ClassFile.FieldType.byte))) ∈ lw_all := lw_g (lw_at lw_m3 28 rfl) rfl
theorem q548 : (Jvm.Cond.methodLink "java/lang/StringUTF16" (11 : Nat) ({ cls := "java/lang/StringUTF16", name := "newBytesLength", desc := "(I)I" } : Jvm.MethodName)) ∈ lw_all := lw_g (lw_at lw_m3 29 rfl) rfl
theorem q549 : (Jvm.Cond.static ({ cls := "java/lang/StringUTF16", name := "newBytesLength", desc := "(I)I" } : Jvm.MethodName)) ∈ lw_all := lw_g (lw_at lw_m3 30 rfl) rfl
theorem q550 : (Jvm.Cond.code ({ cls := "java/lang/StringUTF16", name := "newBytesLength", desc := "(I)I" } : Jvm.MethodName) prog_29_method_3_code (1 : Nat) (Option.some Jvm.ClassFile.FieldType.int)) ∈ lw_all := lw_g (lw_at lw_m3 31 rfl) rfl
theorem q551 : (Jvm.Cond.constant "java/lang/StringUTF16" (20 : Nat) (1073741823 : Int32)) ∈ lw_all := lw_g (lw_at lw_m3 32 rfl) rfl
theorem q608 : (Jvm.Cond.static ({ cls := "java/lang/StringUTF16", name := "putCharsAt", desc := "([BICCCC)I" } : Jvm.MethodName)) ∈ lw_all := lw_g (lw_at lw_m3 89 rfl) rfl
theorem q609 : (Jvm.Cond.code ({ cls := "java/lang/StringUTF16", name := "putCharsAt", desc := "([BICCCC)I" } : Jvm.MethodName) prog_29_method_81_code (7 : Nat) (Option.some Jvm.ClassFile.FieldType.int)) ∈ lw_all := lw_g (lw_at lw_m3 90 rfl) rfl
theorem q610 : (Jvm.Cond.methodLink "java/lang/StringUTF16" (96 : Nat) ({ cls := "java/lang/StringUTF16", name := "checkBoundsBeginEnd", desc := "(II[B)V" } : Jvm.MethodName)) ∈ lw_all := lw_g (lw_at lw_m3 91 rfl) rfl
theorem q611 : (Jvm.Cond.static ({ cls := "java/lang/StringUTF16", name := "checkBoundsBeginEnd", desc := "(II[B)V" } : Jvm.MethodName)) ∈ lw_all := lw_g (lw_at lw_m3 92 rfl) rfl
theorem q612 : (Jvm.Cond.code ({ cls := "java/lang/StringUTF16", name := "checkBoundsBeginEnd", desc := "(II[B)V" } : Jvm.MethodName) prog_29_method_93_code (3 : Nat) (Option.none : Option Jvm.ClassFile.FieldType)) ∈ lw_all := lw_g (lw_at lw_m3 93 rfl) rfl
theorem q613 : (Jvm.Cond.methodLink "java/lang/StringUTF16" (48 : Nat) ({ cls := "java/lang/StringUTF16", name := "length", desc := "([B)I" } : Jvm.MethodName)) ∈ lw_all := lw_g (lw_at lw_m3 94 rfl) rfl
theorem q614 : (Jvm.Cond.static ({ cls := "java/lang/StringUTF16", name := "length", desc := "([B)I" } : Jvm.MethodName)) ∈ lw_all := lw_g (lw_at lw_m3 95 rfl) rfl
theorem q615 : (Jvm.Cond.code ({ cls := "java/lang/StringUTF16", name := "length", desc := "([B)I" } : Jvm.MethodName) prog_29_method_6_code (1 : Nat) (Option.some Jvm.ClassFile.FieldType.int)) ∈ lw_all := lw_g (lw_at lw_m3 96 rfl) rfl
theorem q616 : (Jvm.Cond.methodLink "java/lang/StringUTF16" (241 : Nat) ({ cls := "java/lang/String", name := "checkBoundsBeginEnd", desc := "(III)V" } : Jvm.MethodName)) ∈ lw_all := lw_g (lw_at lw_m3 97 rfl) rfl
theorem q622 : (Jvm.Cond.methodLink "java/lang/StringUTF16" (111 : Nat) ({ cls := "java/lang/StringUTF16", name := "putChar", desc := "([BII)V" } : Jvm.MethodName)) ∈ lw_all := lw_g (lw_at lw_m3 103 rfl) rfl
theorem q623 : (Jvm.Cond.static ({ cls := "java/lang/StringUTF16", name := "putChar", desc := "([BII)V" } : Jvm.MethodName)) ∈ lw_all := lw_g (lw_at lw_m3 104 rfl) rfl
theorem q624 : (Jvm.Cond.code ({ cls := "java/lang/StringUTF16", name := "putChar", desc := "([BII)V" } : Jvm.MethodName) prog_29_method_4_code (3 : Nat) (Option.none : Option Jvm.ClassFile.FieldType)) ∈ lw_all := lw_g (lw_at lw_m3 105 rfl) rfl
theorem q625 : (Jvm.Cond.fieldLink "java/lang/StringUTF16" (44 : Nat) "java/lang/StringUTF16" "$assertionsDisabled" "Z") ∈ lw_all := lw_g (lw_at lw_m3 106 rfl) rfl
theorem q626 : (Jvm.Cond.laysStatic "java/lang/StringUTF16" "$assertionsDisabled" "Z") ∈ lw_tbl := lw_at lw_m3 107 rfl
theorem q627 : (Jvm.Cond.fieldLink "java/lang/StringUTF16" (59 : Nat) "java/lang/StringUTF16" "HI_BYTE_SHIFT" "I") ∈ lw_all := lw_g (lw_at lw_m3 108 rfl) rfl
theorem q628 : (Jvm.Cond.laysStatic "java/lang/StringUTF16" "HI_BYTE_SHIFT" "I") ∈ lw_tbl := lw_at lw_m3 109 rfl
theorem q629 : (Jvm.Cond.fieldLink "java/lang/StringUTF16" (63 : Nat) "java/lang/StringUTF16" "LO_BYTE_SHIFT" "I") ∈ lw_all := lw_g (lw_at lw_m3 110 rfl) rfl
theorem q630 : (Jvm.Cond.laysStatic "java/lang/StringUTF16" "LO_BYTE_SHIFT" "I") ∈ lw_tbl := lw_at lw_m3 111 rfl
theorem q657 : (Jvm.Cond.static ({ cls := "java/lang/StringUTF16", name := "inflate", desc := "([BI[BII)V" } : Jvm.MethodName)) ∈ lw_all := lw_g (lw_at lw_m3 138 rfl) rfl
theorem q658 : (Jvm.Cond.code ({ cls := "java/lang/StringUTF16", name := "inflate", desc := "([BI[BII)V" } : Jvm.MethodName) prog_29_method_86_code (6 : Nat) (Option.none : Option Jvm.ClassFile.FieldType)) ∈ lw_all := lw_g (lw_at lw_m3 139 rfl) rfl
theorem q659 : (Jvm.Cond.methodLink "java/lang/StringUTF16" (173 : Nat) ({ cls := "java/lang/StringUTF16", name := "checkBoundsOffCount", desc := "(II[B)V" } : Jvm.MethodName)) ∈ lw_all := lw_g (lw_at lw_m3 140 rfl) rfl
theorem q660 : (Jvm.Cond.static ({ cls := "java/lang/StringUTF16", name := "checkBoundsOffCount", desc := "(II[B)V" } : Jvm.MethodName)) ∈ lw_all := lw_g (lw_at lw_m3 141 rfl) rfl
theorem q661 : (Jvm.Cond.code ({ cls := "java/lang/StringUTF16", name := "checkBoundsOffCount", desc := "(II[B)V" } : Jvm.MethodName) prog_29_method_94_code (3 : Nat) (Option.none : Option Jvm.ClassFile.FieldType)) ∈ lw_all := lw_g (lw_at lw_m3 142 rfl) rfl
theorem q662 : (Jvm.Cond.methodLink "java/lang/StringUTF16" (419 : Nat) ({ cls := "java/lang/String", name := "checkBoundsOffCount", desc := "(III)I" } : Jvm.MethodName)) ∈ lw_all := lw_g (lw_at lw_m3 143 rfl) rfl
theorem q692 : (Jvm.Cond.static ({ cls := "java/lang/StringUTF16", name := "getChars", desc := "(III[B)I" } : Jvm.MethodName)) ∈ lw_all := lw_g (lw_at lw_m3 173 rfl) rfl
theorem q693 : (Jvm.Cond.code ({ cls := "java/lang/StringUTF16", name := "getChars", desc := "(III[B)I" } : Jvm.MethodName) prog_29_method_77_code (5 : Nat) (Option.some Jvm.ClassFile.FieldType.int)) ∈ lw_all := lw_g (lw_at lw_m3 174 rfl) rfl
theorem q694 : (Jvm.Cond.methodLink "java/lang/StringUTF16" (393 : Nat) ({ cls := "java/lang/StringUTF16", name := "getChars", desc := "(II[B)I" } : Jvm.MethodName)) ∈ lw_all := lw_g (lw_at lw_m3 175 rfl) rfl
theorem q695 : (Jvm.Cond.static ({ cls := "java/lang/StringUTF16", name := "getChars", desc := "(II[B)I" } : Jvm.MethodName)) ∈ lw_all := lw_g (lw_at lw_m3 176 rfl) rfl
theorem q696 : (Jvm.Cond.code ({ cls := "java/lang/StringUTF16", name := "getChars", desc := "(II[B)I" } : Jvm.MethodName) prog_29_method_89_code (7 : Nat) (Option.some Jvm.ClassFile.FieldType.int)) ∈ lw_all := lw_g (lw_at lw_m3 177 rfl) rfl
theorem q697 : (Jvm.Cond.fieldLink "java/lang/StringUTF16" (403 : Nat) "java/lang/Integer" "DigitOnes" "[B") ∈ lw_all := lw_g (lw_at lw_m3 178 rfl) rfl
theorem q698 : (Jvm.Cond.fieldLink "java/lang/StringUTF16" (407 : Nat) "java/lang/Integer" "DigitTens" "[B") ∈ lw_all := lw_g (lw_at lw_m3 179 rfl) rfl
theorem q748 : (Jvm.Cond.static ({ cls := "java/lang/StringUTF16", name := "compress", desc := "([BII)[B" } : Jvm.MethodName)) ∈ lw_all := lw_g (lw_at lw_m3 229 rfl) rfl
theorem q749 : (Jvm.Cond.code ({ cls := "java/lang/StringUTF16", name := "compress", desc := "([BII)[B" } : Jvm.MethodName) prog_29_method_17_code (6 : Nat) (Option.some (Jvm.ClassFile.FieldType.array Jvm.ClassFile.FieldType.byte))) ∈ lw_all := lw_g (lw_at lw_m3 230 rfl) rfl
theorem q750 : (Jvm.Cond.methodLink "java/lang/StringUTF16" (123 : Nat) ({ cls := "java/lang/StringUTF16", name := "compress", desc := "([BI[BII)I" } : Jvm.MethodName)) ∈ lw_all := lw_g (lw_at lw_m3 231 rfl) rfl
theorem q751 : (Jvm.Cond.static ({ cls := "java/lang/StringUTF16", name := "compress", desc := "([BI[BII)I" } : Jvm.MethodName)) ∈ lw_all := lw_g (lw_at lw_m3 232 rfl) rfl
theorem q752 : (Jvm.Cond.code ({ cls := "java/lang/StringUTF16", name := "compress", desc := "([BI[BII)I" } : Jvm.MethodName) prog_29_method_22_code (7 : Nat) (Option.some Jvm.ClassFile.FieldType.int)) ∈ lw_all := lw_g (lw_at lw_m3 233 rfl) rfl
theorem q753 : (Jvm.Cond.methodLink "java/lang/StringUTF16" (71 : Nat) ({ cls := "java/lang/StringUTF16", name := "getChar", desc := "([BI)C" } : Jvm.MethodName)) ∈ lw_all := lw_g (lw_at lw_m3 234 rfl) rfl
theorem q754 : (Jvm.Cond.static ({ cls := "java/lang/StringUTF16", name := "getChar", desc := "([BI)C" } : Jvm.MethodName)) ∈ lw_all := lw_g (lw_at lw_m3 235 rfl) rfl
theorem q755 : (Jvm.Cond.code ({ cls := "java/lang/StringUTF16", name := "getChar", desc := "([BI)C" } : Jvm.MethodName) prog_29_method_5_code (2 : Nat) (Option.some Jvm.ClassFile.FieldType.char)) ∈ lw_all := lw_g (lw_at lw_m3 236 rfl) rfl
theorem q756 : (Jvm.Cond.methodLink "java/lang/StringUTF16" (126 : Nat) ({ cls := "java/util/Arrays", name := "copyOfRange", desc := "([BII)[B" } : Jvm.MethodName)) ∈ lw_all := lw_g (lw_at lw_m3 237 rfl) rfl
theorem q758 : (Jvm.Cond.static ({ cls := "java/lang/StringUTF16", name := "coderFromArrayLen", desc := "([BI)B" } : Jvm.MethodName)) ∈ lw_all := lw_g (lw_at lw_m3 239 rfl) rfl
theorem q759 : (Jvm.Cond.code ({ cls := "java/lang/StringUTF16", name := "coderFromArrayLen", desc := "([BI)B" } : Jvm.MethodName) prog_29_method_15_code (2 : Nat) (Option.some Jvm.ClassFile.FieldType.byte)) ∈ lw_all := lw_g (lw_at lw_m4 0 rfl) rfl
theorem q994 : (Jvm.Cond.static ({ cls := "java/lang/StringUTF16", name := "putCharSB", desc := "([BII)V" } : Jvm.MethodName)) ∈ lw_all := lw_g (lw_at lw_m4 235 rfl) rfl
theorem q995 : (Jvm.Cond.code ({ cls := "java/lang/StringUTF16", name := "putCharSB", desc := "([BII)V" } : Jvm.MethodName) prog_29_method_71_code (3 : Nat) (Option.none : Option Jvm.ClassFile.FieldType)) ∈ lw_all := lw_g (lw_at lw_m4 236 rfl) rfl
theorem q996 : (Jvm.Cond.methodLink "java/lang/StringUTF16" (67 : Nat) ({ cls := "java/lang/StringUTF16", name := "checkIndex", desc := "(I[B)V" } : Jvm.MethodName)) ∈ lw_all := lw_g (lw_at lw_m4 237 rfl) rfl
theorem q997 : (Jvm.Cond.static ({ cls := "java/lang/StringUTF16", name := "checkIndex", desc := "(I[B)V" } : Jvm.MethodName)) ∈ lw_all := lw_g (lw_at lw_m4 238 rfl) rfl
theorem q998 : (Jvm.Cond.code ({ cls := "java/lang/StringUTF16", name := "checkIndex", desc := "(I[B)V" } : Jvm.MethodName) prog_29_method_91_code (2 : Nat) (Option.none : Option Jvm.ClassFile.FieldType)) ∈ lw_all := lw_g (lw_at lw_m4 239 rfl) rfl
theorem q999 : (Jvm.Cond.methodLink "java/lang/StringUTF16" (414 : Nat) ({ cls := "java/lang/String", name := "checkIndex", desc := "(II)V" } : Jvm.MethodName)) ∈ lw_all := lw_g (lw_at lw_m5 0 rfl) rfl
theorem q1025 : (Jvm.Cond.static ({ cls := "java/lang/StringUTF16", name := "getChars", desc := "(JII[B)I" } : Jvm.MethodName)) ∈ lw_all := lw_g (lw_at lw_m5 26 rfl) rfl
theorem q1026 : (Jvm.Cond.code ({ cls := "java/lang/StringUTF16", name := "getChars", desc := "(JII[B)I" } : Jvm.MethodName) prog_29_method_78_code (6 : Nat) (Option.some Jvm.ClassFile.FieldType.int)) ∈ lw_all := lw_g (lw_at lw_m5 27 rfl) rfl
theorem q1027 : (Jvm.Cond.methodLink "java/lang/StringUTF16" (396 : Nat) ({ cls := "java/lang/StringUTF16", name := "getChars", desc := "(JI[B)I" } : Jvm.MethodName)) ∈ lw_all := lw_g (lw_at lw_m5 28 rfl) rfl
theorem q1028 : (Jvm.Cond.static ({ cls := "java/lang/StringUTF16", name := "getChars", desc := "(JI[B)I" } : Jvm.MethodName)) ∈ lw_all := lw_g (lw_at lw_m5 29 rfl) rfl
theorem q1029 : (Jvm.Cond.code ({ cls := "java/lang/StringUTF16", name := "getChars", desc := "(JI[B)I" } : Jvm.MethodName) prog_29_method_90_code (11 : Nat) (Option.some Jvm.ClassFile.FieldType.int)) ∈ lw_all := lw_g (lw_at lw_m5 30 rfl) rfl
theorem q1030 : (Jvm.Cond.constantLong "java/lang/StringUTF16" (410 : Nat) (-2147483648 : Int64)) ∈ lw_all := lw_g (lw_at lw_m5 31 rfl) rfl
theorem q1031 : (Jvm.Cond.constantLong "java/lang/StringUTF16" (412 : Nat) (100 : Int64)) ∈ lw_all := lw_g (lw_at lw_m5 32 rfl) rfl
theorem q1057 : (Jvm.Cond.static ({ cls := "java/lang/StringUTF16", name := "indexOf", desc := "([BIII)I" } : Jvm.MethodName)) ∈ lw_all := lw_g (lw_at lw_m5 58 rfl) rfl
theorem q1058 : (Jvm.Cond.code ({ cls := "java/lang/StringUTF16", name := "indexOf", desc := "([BIII)I" } : Jvm.MethodName) prog_29_method_40_code (4 : Nat) (Option.some Jvm.ClassFile.FieldType.int)) ∈ lw_all := lw_g (lw_at lw_m5 59 rfl) rfl
theorem q1059 : (Jvm.Cond.methodLink "java/lang/StringUTF16" (224 : Nat) ({ cls := "java/lang/Math", name := "max", desc := "(II)I" } : Jvm.MethodName)) ∈ lw_all := lw_g (lw_at lw_m5 60 rfl) rfl
theorem q1060 : (Jvm.Cond.methodLink "java/lang/StringUTF16" (183 : Nat) ({ cls := "java/lang/Math", name := "min", desc := "(II)I" } : Jvm.MethodName)) ∈ lw_all := lw_g (lw_at lw_m5 61 rfl) rfl
theorem q1061 : (Jvm.Cond.constant "java/lang/StringUTF16" (227 : Nat) (65536 : Int32)) ∈ lw_all := lw_g (lw_at lw_m5 62 rfl) rfl
theorem q1062 : (Jvm.Cond.methodLink "java/lang/StringUTF16" (228 : Nat) ({ cls := "java/lang/StringUTF16", name := "indexOfChar", desc := "([BIII)I" } : Jvm.MethodName)) ∈ lw_all := lw_g (lw_at lw_m5 63 rfl) rfl
theorem q1063 : (Jvm.Cond.static ({ cls := "java/lang/StringUTF16", name := "indexOfChar", desc := "([BIII)I" } : Jvm.MethodName)) ∈ lw_all := lw_g (lw_at lw_m5 64 rfl) rfl
theorem q1064 : (Jvm.Cond.code ({ cls := "java/lang/StringUTF16", name := "indexOfChar", desc := "([BIII)I" } : Jvm.MethodName) prog_29_method_47_code (4 : Nat) (Option.some Jvm.ClassFile.FieldType.int)) ∈ lw_all := lw_g (lw_at lw_m5 65 rfl) rfl
theorem q1065 : (Jvm.Cond.methodLink "java/lang/StringUTF16" (244 : Nat) ({ cls := "java/lang/StringUTF16", name := "indexOfCharUnsafe", desc := "([BIII)I" } : Jvm.MethodName)) ∈ lw_all := lw_g (lw_at lw_m5 66 rfl) rfl
theorem q1066 : (Jvm.Cond.static ({ cls := "java/lang/StringUTF16", name := "indexOfCharUnsafe", desc := "([BIII)I" } : Jvm.MethodName)) ∈ lw_all := lw_g (lw_at lw_m5 67 rfl) rfl
theorem q1067 : (Jvm.Cond.code ({ cls := "java/lang/StringUTF16", name := "indexOfCharUnsafe", desc := "([BIII)I" } : Jvm.MethodName) prog_29_method_48_code (5 : Nat) (Option.some Jvm.ClassFile.FieldType.int)) ∈ lw_all := lw_g (lw_at lw_m5 68 rfl) rfl
theorem q1068 : (Jvm.Cond.methodLink "java/lang/StringUTF16" (232 : Nat) ({ cls := "java/lang/StringUTF16", name := "indexOfSupplementary", desc := "([BIII)I" } : Jvm.MethodName)) ∈ lw_all := lw_g (lw_at lw_m5 69 rfl) rfl
theorem q1069 : (Jvm.Cond.static ({ cls := "java/lang/StringUTF16", name := "indexOfSupplementary", desc := "([BIII)I" } : Jvm.MethodName)) ∈ lw_all := lw_g (lw_at lw_m5 70 rfl) rfl
theorem q1070 : (Jvm.Cond.code ({ cls := "java/lang/StringUTF16", name := "indexOfSupplementary", desc := "([BIII)I" } : Jvm.MethodName) prog_29_method_49_code (7 : Nat) (Option.some Jvm.ClassFile.FieldType.int)) ∈ lw_all := lw_g (lw_at lw_m5 71 rfl) rfl
theorem q1071 : (Jvm.Cond.methodLink "java/lang/StringUTF16" (164 : Nat) ({ cls := "java/lang/Character", name := "isValidCodePoint", desc := "(I)Z" } : Jvm.MethodName)) ∈ lw_all := lw_g (lw_at lw_m5 72 rfl) rfl
theorem q1074 : (Jvm.Cond.methodLink "java/lang/StringUTF16" (157 : Nat) ({ cls := "java/lang/Character", name := "highSurrogate", desc := "(I)C" } : Jvm.MethodName)) ∈ lw_all := lw_g (lw_at lw_m5 75 rfl) rfl
theorem q1078 : (Jvm.Cond.methodLink "java/lang/StringUTF16" (161 : Nat) ({ cls := "java/lang/Character", name := "lowSurrogate", desc := "(I)C" } : Jvm.MethodName)) ∈ lw_all := lw_g (lw_at lw_m5 79 rfl) rfl
theorem q1101 : (Jvm.Cond.static ({ cls := "java/lang/StringUTF16", name := "newString", desc := "([BII)Ljava/lang/String;" } : Jvm.MethodName)) ∈ lw_all := lw_g (lw_at lw_m5 102 rfl) rfl
theorem q1102 : (Jvm.Cond.code ({ cls := "java/lang/StringUTF16", name := "newString", desc := "([BII)Ljava/lang/String;" } : Jvm.MethodName) prog_29_method_69_code (5 : Nat) (Option.some (Jvm.ClassFile.FieldType.object "java/lang/String"))) ∈ lw_all := lw_g (lw_at lw_m5 103 rfl) rfl
theorem q1103 : (Jvm.Cond.stringRef "java/lang/StringUTF16" (295 : Nat) "") ∈ lw_tbl := lw_at lw_m5 104 rfl
theorem q1104 : (Jvm.Cond.fieldLink "java/lang/StringUTF16" (251 : Nat) "java/lang/String" "COMPACT_STRINGS" "Z") ∈ lw_all := lw_g (lw_at lw_m5 105 rfl) rfl
theorem q1105 : (Jvm.Cond.methodLink "java/lang/StringUTF16" (257 : Nat) ({ cls := "java/lang/StringUTF16", name := "compress", desc := "([BII)[B" } : Jvm.MethodName)) ∈ lw_all := lw_g (lw_at lw_m5 106 rfl) rfl
theorem q1106 : (Jvm.Cond.methodLink "java/lang/StringUTF16" (259 : Nat) ({ cls := "java/lang/StringUTF16", name := "coderFromArrayLen", desc := "([BI)B" } : Jvm.MethodName)) ∈ lw_all := lw_g (lw_at lw_m5 107 rfl) rfl
theorem q1107 : (Jvm.Cond.classLink "java/lang/StringUTF16" (3 : Nat) "java/lang/String") ∈ lw_all := lw_g (lw_at lw_m5 108 rfl) rfl
theorem q1108 : (Jvm.Cond.methodLink "java/lang/StringUTF16" (263 : Nat) ({ cls := "java/lang/String", name := "<init>", desc := "([BB)V" } : Jvm.MethodName)) ∈ lw_all := lw_g (lw_at lw_m5 109 rfl) rfl
theorem q1153 : (Jvm.Cond.static ({ cls := "java/lang/StringUTF16", name := "charAt", desc := "([BI)C" } : Jvm.MethodName)) ∈ lw_all := lw_g (lw_at lw_m5 154 rfl) rfl
theorem q1154 : (Jvm.Cond.code ({ cls := "java/lang/StringUTF16", name := "charAt", desc := "([BI)C" } : Jvm.MethodName) prog_29_method_83_code (2 : Nat) (Option.some Jvm.ClassFile.FieldType.char)) ∈ lw_all := lw_g (lw_at lw_m5 155 rfl) rfl
theorem q1663 : (Jvm.Cond.static ({ cls := "java/lang/StringUTF16", name := "hashCode", desc := "([B)I" } : Jvm.MethodName)) ∈ lw_all := lw_g (lw_at lw_m7 184 rfl) rfl
theorem q1664 : (Jvm.Cond.code ({ cls := "java/lang/StringUTF16", name := "hashCode", desc := "([B)I" } : Jvm.MethodName) prog_29_method_39_code (1 : Nat) (Option.some Jvm.ClassFile.FieldType.int)) ∈ lw_all := lw_g (lw_at lw_m7 185 rfl) rfl
theorem q1665 : (Jvm.Cond.methodLink "java/lang/StringUTF16" (220 : Nat) ({ cls := "jdk/internal/util/ArraysSupport", name := "vectorizedHashCode", desc := "(Ljava/lang/Object;IIII)I" } : Jvm.MethodName)) ∈ lw_all := lw_g (lw_at lw_m7 186 rfl) rfl
/-! jdk/internal/util/ArraysSupport -/
set_option maxRecDepth 100000
def RJ24 : String := "jdk/internal/util/ArraysSupport"
abbrev cJ24_newLength : ByteArray := prog_38_method_27_code
def yJ24_newLength : MethodName := ⟨RJ24, "newLength", "(III)I"⟩
def dkwJ24_newLength_1 : List UInt8 := [184, 0, 201, 172]
abbrev dktJ24_newLength_1 : List UInt8 := dkwJ24_newLength_1 ++ []
def dkwJ24_newLength_0 : List UInt8 := [26, 27, 28, 184, 0, 194, 96, 62, 3, 29, 162, 0, 11, 29, 18, 200, 163, 0, 5, 29, 172, 26, 27]
abbrev dktJ24_newLength_0 : List UInt8 := dkwJ24_newLength_0 ++ dktJ24_newLength_1
theorem dksJ24_newLength_0 : cJ24_newLength.data.toList.drop 0 = dktJ24_newLength_0 := by decide +kernel
theorem dksJ24_newLength_1 : cJ24_newLength.data.toList.drop 23 = dktJ24_newLength_1 := dk_seg dksJ24_newLength_0 23 rfl rfl
theorem dJ24_newLength_0 : decode cJ24_newLength 0 = .ok (.iload_n 0, 1) := dk_26 (dk_at dksJ24_newLength_0 0 rfl rfl)
theorem dJ24_newLength_1 : decode cJ24_newLength 1 = .ok (.iload_n 1, 1) := dk_27 (dk_at dksJ24_newLength_0 1 rfl rfl)
theorem dJ24_newLength_2 : decode cJ24_newLength 2 = .ok (.iload_n 2, 1) := dk_28 (dk_at dksJ24_newLength_0 2 rfl rfl)
theorem dJ24_newLength_3 : decode cJ24_newLength 3 = .ok (.invokestatic 194, 3) := dk_184 0 194 (dk_at dksJ24_newLength_0 3 rfl rfl)
theorem dJ24_newLength_6 : decode cJ24_newLength 6 = .ok (.iadd, 1) := dk_96 (dk_at dksJ24_newLength_0 6 rfl rfl)
theorem dJ24_newLength_7 : decode cJ24_newLength 7 = .ok (.istore_n 3, 1) := dk_62 (dk_at dksJ24_newLength_0 7 rfl rfl)
theorem dJ24_newLength_8 : decode cJ24_newLength 8 = .ok (.iconst 0, 1) := dk_3 (dk_at dksJ24_newLength_0 8 rfl rfl)
theorem dJ24_newLength_9 : decode cJ24_newLength 9 = .ok (.iload_n 3, 1) := dk_29 (dk_at dksJ24_newLength_0 9 rfl rfl)
theorem dJ24_newLength_10 : decode cJ24_newLength 10 = .ok (.if_icmp .ge 11, 3) := dk_162 0 11 (dk_at dksJ24_newLength_0 10 rfl rfl)
theorem dJ24_newLength_13 : decode cJ24_newLength 13 = .ok (.iload_n 3, 1) := dk_29 (dk_at dksJ24_newLength_0 13 rfl rfl)
theorem dJ24_newLength_14 : decode cJ24_newLength 14 = .ok (.ldc 200, 2) := dk_18 200 (dk_at dksJ24_newLength_0 14 rfl rfl)
theorem dJ24_newLength_16 : decode cJ24_newLength 16 = .ok (.if_icmp .gt 5, 3) := dk_163 0 5 (dk_at dksJ24_newLength_0 16 rfl rfl)
theorem dJ24_newLength_19 : decode cJ24_newLength 19 = .ok (.iload_n 3, 1) := dk_29 (dk_at dksJ24_newLength_0 19 rfl rfl)
theorem dJ24_newLength_20 : decode cJ24_newLength 20 = .ok (.ireturn, 1) := dk_172 (dk_at dksJ24_newLength_0 20 rfl rfl)
theorem dJ24_newLength_21 : decode cJ24_newLength 21 = .ok (.iload_n 0, 1) := dk_26 (dk_at dksJ24_newLength_0 21 rfl rfl)
theorem dJ24_newLength_22 : decode cJ24_newLength 22 = .ok (.iload_n 1, 1) := dk_27 (dk_at dksJ24_newLength_0 22 rfl rfl)
theorem dJ24_newLength_23 : decode cJ24_newLength 23 = .ok (.invokestatic 201, 3) := dk_184 0 201 (dk_at dksJ24_newLength_1 0 rfl rfl)
theorem dJ24_newLength_26 : decode cJ24_newLength 26 = .ok (.ireturn, 1) := dk_172 (dk_at dksJ24_newLength_1 3 rfl rfl)
abbrev cJ24_vectorizedHashCode : ByteArray := prog_38_method_4_code
def yJ24_vectorizedHashCode : MethodName := ⟨RJ24, "vectorizedHashCode", "(Ljava/lang/Object;IIII)I"⟩
def dkwJ24_vectorizedHashCode_6 : List UInt8 := [183, 0, 91, 18, 92, 182, 0, 94, 21, 4, 182, 0, 98, 182, 0, 101, 183, 0, 105, 191, 172]
abbrev dktJ24_vectorizedHashCode_6 : List UInt8 := dkwJ24_vectorizedHashCode_6 ++ []
def dkwJ24_vectorizedHashCode_5 : List UInt8 := [167, 0, 44, 29, 42, 192, 0, 82, 27, 28, 184, 0, 84, 167, 0, 31, 187, 0, 87, 89, 187, 0, 89, 89]
abbrev dktJ24_vectorizedHashCode_5 : List UInt8 := dkwJ24_vectorizedHashCode_5 ++ dktJ24_vectorizedHashCode_6
def dkwJ24_vectorizedHashCode_4 : List UInt8 := [29, 42, 192, 0, 60, 27, 28, 184, 0, 75, 167, 0, 57, 29, 42, 192, 0, 77, 27, 28, 184, 0, 79]
abbrev dktJ24_vectorizedHashCode_4 : List UInt8 := dkwJ24_vectorizedHashCode_4 ++ dktJ24_vectorizedHashCode_5
def dkwJ24_vectorizedHashCode_3 : List UInt8 := [192, 0, 60, 27, 28, 184, 0, 66, 167, 0, 83, 29, 42, 192, 0, 69, 27, 28, 184, 0, 71, 167, 0, 70]
abbrev dktJ24_vectorizedHashCode_3 : List UInt8 := dkwJ24_vectorizedHashCode_3 ++ dktJ24_vectorizedHashCode_4
def dkwJ24_vectorizedHashCode_2 : List UInt8 := [29, 42, 192, 0, 60, 27, 28, 184, 0, 62, 167, 0, 103, 42, 193, 0, 60, 153, 0, 16, 29, 42]
abbrev dktJ24_vectorizedHashCode_2 : List UInt8 := dkwJ24_vectorizedHashCode_2 ++ dktJ24_vectorizedHashCode_3
def dkwJ24_vectorizedHashCode_1 : List UInt8 := [170, 0, 0, 0, 0, 127, 0, 0, 0, 4, 0, 0, 0, 10, 0, 0, 0, 42, 0, 0, 0, 55, 0, 0, 0, 127, 0, 0, 0, 127, 0, 0, 0, 88, 0, 0, 0, 101, 0, 0, 0, 114]
abbrev dktJ24_vectorizedHashCode_1 : List UInt8 := dkwJ24_vectorizedHashCode_1 ++ dktJ24_vectorizedHashCode_2
def dkwJ24_vectorizedHashCode_0 : List UInt8 := [21, 4]
abbrev dktJ24_vectorizedHashCode_0 : List UInt8 := dkwJ24_vectorizedHashCode_0 ++ dktJ24_vectorizedHashCode_1
theorem dksJ24_vectorizedHashCode_0 : cJ24_vectorizedHashCode.data.toList.drop 0 = dktJ24_vectorizedHashCode_0 := by decide +kernel
theorem dksJ24_vectorizedHashCode_1 : cJ24_vectorizedHashCode.data.toList.drop 2 = dktJ24_vectorizedHashCode_1 := dk_seg dksJ24_vectorizedHashCode_0 2 rfl rfl
theorem dksJ24_vectorizedHashCode_2 : cJ24_vectorizedHashCode.data.toList.drop 44 = dktJ24_vectorizedHashCode_2 := dk_seg dksJ24_vectorizedHashCode_1 42 rfl rfl
theorem dksJ24_vectorizedHashCode_3 : cJ24_vectorizedHashCode.data.toList.drop 66 = dktJ24_vectorizedHashCode_3 := dk_seg dksJ24_vectorizedHashCode_2 22 rfl rfl
theorem dksJ24_vectorizedHashCode_4 : cJ24_vectorizedHashCode.data.toList.drop 90 = dktJ24_vectorizedHashCode_4 := dk_seg dksJ24_vectorizedHashCode_3 24 rfl rfl
theorem dksJ24_vectorizedHashCode_5 : cJ24_vectorizedHashCode.data.toList.drop 113 = dktJ24_vectorizedHashCode_5 := dk_seg dksJ24_vectorizedHashCode_4 23 rfl rfl
theorem dksJ24_vectorizedHashCode_6 : cJ24_vectorizedHashCode.data.toList.drop 137 = dktJ24_vectorizedHashCode_6 := dk_seg dksJ24_vectorizedHashCode_5 24 rfl rfl
theorem dJ24_vectorizedHashCode_0 : decode cJ24_vectorizedHashCode 0 = .ok (.iload 4, 2) := dk_21 4 (dk_at dksJ24_vectorizedHashCode_0 0 rfl rfl)
theorem dJ24_vectorizedHashCode_2 : decode cJ24_vectorizedHashCode 2 = .ok (.tableswitch 127 4 10 #[42, 55, 127, 127, 88, 101, 114], 42) := by decide +kernel
theorem dJ24_vectorizedHashCode_44 : decode cJ24_vectorizedHashCode 44 = .ok (.iload_n 3, 1) := dk_29 (dk_at dksJ24_vectorizedHashCode_2 0 rfl rfl)
theorem dJ24_vectorizedHashCode_45 : decode cJ24_vectorizedHashCode 45 = .ok (.aload_n 0, 1) := dk_42 (dk_at dksJ24_vectorizedHashCode_2 1 rfl rfl)
theorem dJ24_vectorizedHashCode_46 : decode cJ24_vectorizedHashCode 46 = .ok (.checkcast 60, 3) := dk_192 0 60 (dk_at dksJ24_vectorizedHashCode_2 2 rfl rfl)
theorem dJ24_vectorizedHashCode_49 : decode cJ24_vectorizedHashCode 49 = .ok (.iload_n 1, 1) := dk_27 (dk_at dksJ24_vectorizedHashCode_2 5 rfl rfl)
theorem dJ24_vectorizedHashCode_50 : decode cJ24_vectorizedHashCode 50 = .ok (.iload_n 2, 1) := dk_28 (dk_at dksJ24_vectorizedHashCode_2 6 rfl rfl)
theorem dJ24_vectorizedHashCode_51 : decode cJ24_vectorizedHashCode 51 = .ok (.invokestatic 62, 3) := dk_184 0 62 (dk_at dksJ24_vectorizedHashCode_2 7 rfl rfl)
theorem dJ24_vectorizedHashCode_54 : decode cJ24_vectorizedHashCode 54 = .ok (.goto 103, 3) := dk_167 0 103 (dk_at dksJ24_vectorizedHashCode_2 10 rfl rfl)
theorem dJ24_vectorizedHashCode_57 : decode cJ24_vectorizedHashCode 57 = .ok (.aload_n 0, 1) := dk_42 (dk_at dksJ24_vectorizedHashCode_2 13 rfl rfl)
theorem dJ24_vectorizedHashCode_58 : decode cJ24_vectorizedHashCode 58 = .ok (.instanceof 60, 3) := dk_193 0 60 (dk_at dksJ24_vectorizedHashCode_2 14 rfl rfl)
theorem dJ24_vectorizedHashCode_61 : decode cJ24_vectorizedHashCode 61 = .ok (.ifCond .eq 16, 3) := dk_153 0 16 (dk_at dksJ24_vectorizedHashCode_2 17 rfl rfl)
theorem dJ24_vectorizedHashCode_64 : decode cJ24_vectorizedHashCode 64 = .ok (.iload_n 3, 1) := dk_29 (dk_at dksJ24_vectorizedHashCode_2 20 rfl rfl)
theorem dJ24_vectorizedHashCode_65 : decode cJ24_vectorizedHashCode 65 = .ok (.aload_n 0, 1) := dk_42 (dk_at dksJ24_vectorizedHashCode_2 21 rfl rfl)
theorem dJ24_vectorizedHashCode_66 : decode cJ24_vectorizedHashCode 66 = .ok (.checkcast 60, 3) := dk_192 0 60 (dk_at dksJ24_vectorizedHashCode_3 0 rfl rfl)
theorem dJ24_vectorizedHashCode_69 : decode cJ24_vectorizedHashCode 69 = .ok (.iload_n 1, 1) := dk_27 (dk_at dksJ24_vectorizedHashCode_3 3 rfl rfl)
theorem dJ24_vectorizedHashCode_70 : decode cJ24_vectorizedHashCode 70 = .ok (.iload_n 2, 1) := dk_28 (dk_at dksJ24_vectorizedHashCode_3 4 rfl rfl)
theorem dJ24_vectorizedHashCode_71 : decode cJ24_vectorizedHashCode 71 = .ok (.invokestatic 66, 3) := dk_184 0 66 (dk_at dksJ24_vectorizedHashCode_3 5 rfl rfl)
theorem dJ24_vectorizedHashCode_74 : decode cJ24_vectorizedHashCode 74 = .ok (.goto 83, 3) := dk_167 0 83 (dk_at dksJ24_vectorizedHashCode_3 8 rfl rfl)
theorem dJ24_vectorizedHashCode_77 : decode cJ24_vectorizedHashCode 77 = .ok (.iload_n 3, 1) := dk_29 (dk_at dksJ24_vectorizedHashCode_3 11 rfl rfl)
theorem dJ24_vectorizedHashCode_78 : decode cJ24_vectorizedHashCode 78 = .ok (.aload_n 0, 1) := dk_42 (dk_at dksJ24_vectorizedHashCode_3 12 rfl rfl)
theorem dJ24_vectorizedHashCode_79 : decode cJ24_vectorizedHashCode 79 = .ok (.checkcast 69, 3) := dk_192 0 69 (dk_at dksJ24_vectorizedHashCode_3 13 rfl rfl)
theorem dJ24_vectorizedHashCode_82 : decode cJ24_vectorizedHashCode 82 = .ok (.iload_n 1, 1) := dk_27 (dk_at dksJ24_vectorizedHashCode_3 16 rfl rfl)
theorem dJ24_vectorizedHashCode_83 : decode cJ24_vectorizedHashCode 83 = .ok (.iload_n 2, 1) := dk_28 (dk_at dksJ24_vectorizedHashCode_3 17 rfl rfl)
theorem dJ24_vectorizedHashCode_84 : decode cJ24_vectorizedHashCode 84 = .ok (.invokestatic 71, 3) := dk_184 0 71 (dk_at dksJ24_vectorizedHashCode_3 18 rfl rfl)
theorem dJ24_vectorizedHashCode_87 : decode cJ24_vectorizedHashCode 87 = .ok (.goto 70, 3) := dk_167 0 70 (dk_at dksJ24_vectorizedHashCode_3 21 rfl rfl)
theorem dJ24_vectorizedHashCode_90 : decode cJ24_vectorizedHashCode 90 = .ok (.iload_n 3, 1) := dk_29 (dk_at dksJ24_vectorizedHashCode_4 0 rfl rfl)
theorem dJ24_vectorizedHashCode_91 : decode cJ24_vectorizedHashCode 91 = .ok (.aload_n 0, 1) := dk_42 (dk_at dksJ24_vectorizedHashCode_4 1 rfl rfl)
theorem dJ24_vectorizedHashCode_92 : decode cJ24_vectorizedHashCode 92 = .ok (.checkcast 60, 3) := dk_192 0 60 (dk_at dksJ24_vectorizedHashCode_4 2 rfl rfl)
theorem dJ24_vectorizedHashCode_95 : decode cJ24_vectorizedHashCode 95 = .ok (.iload_n 1, 1) := dk_27 (dk_at dksJ24_vectorizedHashCode_4 5 rfl rfl)
theorem dJ24_vectorizedHashCode_96 : decode cJ24_vectorizedHashCode 96 = .ok (.iload_n 2, 1) := dk_28 (dk_at dksJ24_vectorizedHashCode_4 6 rfl rfl)
theorem dJ24_vectorizedHashCode_97 : decode cJ24_vectorizedHashCode 97 = .ok (.invokestatic 75, 3) := dk_184 0 75 (dk_at dksJ24_vectorizedHashCode_4 7 rfl rfl)
theorem dJ24_vectorizedHashCode_100 : decode cJ24_vectorizedHashCode 100 = .ok (.goto 57, 3) := dk_167 0 57 (dk_at dksJ24_vectorizedHashCode_4 10 rfl rfl)
theorem dJ24_vectorizedHashCode_103 : decode cJ24_vectorizedHashCode 103 = .ok (.iload_n 3, 1) := dk_29 (dk_at dksJ24_vectorizedHashCode_4 13 rfl rfl)
theorem dJ24_vectorizedHashCode_104 : decode cJ24_vectorizedHashCode 104 = .ok (.aload_n 0, 1) := dk_42 (dk_at dksJ24_vectorizedHashCode_4 14 rfl rfl)
theorem dJ24_vectorizedHashCode_105 : decode cJ24_vectorizedHashCode 105 = .ok (.checkcast 77, 3) := dk_192 0 77 (dk_at dksJ24_vectorizedHashCode_4 15 rfl rfl)
theorem dJ24_vectorizedHashCode_108 : decode cJ24_vectorizedHashCode 108 = .ok (.iload_n 1, 1) := dk_27 (dk_at dksJ24_vectorizedHashCode_4 18 rfl rfl)
theorem dJ24_vectorizedHashCode_109 : decode cJ24_vectorizedHashCode 109 = .ok (.iload_n 2, 1) := dk_28 (dk_at dksJ24_vectorizedHashCode_4 19 rfl rfl)
theorem dJ24_vectorizedHashCode_110 : decode cJ24_vectorizedHashCode 110 = .ok (.invokestatic 79, 3) := dk_184 0 79 (dk_at dksJ24_vectorizedHashCode_4 20 rfl rfl)
theorem dJ24_vectorizedHashCode_113 : decode cJ24_vectorizedHashCode 113 = .ok (.goto 44, 3) := dk_167 0 44 (dk_at dksJ24_vectorizedHashCode_5 0 rfl rfl)
theorem dJ24_vectorizedHashCode_116 : decode cJ24_vectorizedHashCode 116 = .ok (.iload_n 3, 1) := dk_29 (dk_at dksJ24_vectorizedHashCode_5 3 rfl rfl)
theorem dJ24_vectorizedHashCode_117 : decode cJ24_vectorizedHashCode 117 = .ok (.aload_n 0, 1) := dk_42 (dk_at dksJ24_vectorizedHashCode_5 4 rfl rfl)
theorem dJ24_vectorizedHashCode_118 : decode cJ24_vectorizedHashCode 118 = .ok (.checkcast 82, 3) := dk_192 0 82 (dk_at dksJ24_vectorizedHashCode_5 5 rfl rfl)
theorem dJ24_vectorizedHashCode_121 : decode cJ24_vectorizedHashCode 121 = .ok (.iload_n 1, 1) := dk_27 (dk_at dksJ24_vectorizedHashCode_5 8 rfl rfl)
theorem dJ24_vectorizedHashCode_122 : decode cJ24_vectorizedHashCode 122 = .ok (.iload_n 2, 1) := dk_28 (dk_at dksJ24_vectorizedHashCode_5 9 rfl rfl)
theorem dJ24_vectorizedHashCode_123 : decode cJ24_vectorizedHashCode 123 = .ok (.invokestatic 84, 3) := dk_184 0 84 (dk_at dksJ24_vectorizedHashCode_5 10 rfl rfl)
theorem dJ24_vectorizedHashCode_126 : decode cJ24_vectorizedHashCode 126 = .ok (.goto 31, 3) := dk_167 0 31 (dk_at dksJ24_vectorizedHashCode_5 13 rfl rfl)
theorem dJ24_vectorizedHashCode_129 : decode cJ24_vectorizedHashCode 129 = .ok (.new 87, 3) := dk_187 0 87 (dk_at dksJ24_vectorizedHashCode_5 16 rfl rfl)
theorem dJ24_vectorizedHashCode_132 : decode cJ24_vectorizedHashCode 132 = .ok (.dup, 1) := dk_89 (dk_at dksJ24_vectorizedHashCode_5 19 rfl rfl)
theorem dJ24_vectorizedHashCode_133 : decode cJ24_vectorizedHashCode 133 = .ok (.new 89, 3) := dk_187 0 89 (dk_at dksJ24_vectorizedHashCode_5 20 rfl rfl)
theorem dJ24_vectorizedHashCode_136 : decode cJ24_vectorizedHashCode 136 = .ok (.dup, 1) := dk_89 (dk_at dksJ24_vectorizedHashCode_5 23 rfl rfl)
theorem dJ24_vectorizedHashCode_137 : decode cJ24_vectorizedHashCode 137 = .ok (.invokespecial 91, 3) := dk_183 0 91 (dk_at dksJ24_vectorizedHashCode_6 0 rfl rfl)
theorem dJ24_vectorizedHashCode_140 : decode cJ24_vectorizedHashCode 140 = .ok (.ldc 92, 2) := dk_18 92 (dk_at dksJ24_vectorizedHashCode_6 3 rfl rfl)
theorem dJ24_vectorizedHashCode_142 : decode cJ24_vectorizedHashCode 142 = .ok (.invokevirtual 94, 3) := dk_182 0 94 (dk_at dksJ24_vectorizedHashCode_6 5 rfl rfl)
theorem dJ24_vectorizedHashCode_145 : decode cJ24_vectorizedHashCode 145 = .ok (.iload 4, 2) := dk_21 4 (dk_at dksJ24_vectorizedHashCode_6 8 rfl rfl)
theorem dJ24_vectorizedHashCode_147 : decode cJ24_vectorizedHashCode 147 = .ok (.invokevirtual 98, 3) := dk_182 0 98 (dk_at dksJ24_vectorizedHashCode_6 10 rfl rfl)
theorem dJ24_vectorizedHashCode_150 : decode cJ24_vectorizedHashCode 150 = .ok (.invokevirtual 101, 3) := dk_182 0 101 (dk_at dksJ24_vectorizedHashCode_6 13 rfl rfl)
theorem dJ24_vectorizedHashCode_153 : decode cJ24_vectorizedHashCode 153 = .ok (.invokespecial 105, 3) := dk_183 0 105 (dk_at dksJ24_vectorizedHashCode_6 16 rfl rfl)
theorem dJ24_vectorizedHashCode_156 : decode cJ24_vectorizedHashCode 156 = .ok (.athrow, 1) := dk_191 (dk_at dksJ24_vectorizedHashCode_6 19 rfl rfl)
theorem dJ24_vectorizedHashCode_157 : decode cJ24_vectorizedHashCode 157 = .ok (.ireturn, 1) := dk_172 (dk_at dksJ24_vectorizedHashCode_6 20 rfl rfl)
abbrev cJ24_signedHashCode : ByteArray := prog_38_method_5_code
def yJ24_signedHashCode : MethodName := ⟨RJ24, "signedHashCode", "(I[BII)I"⟩
def dkwJ24_signedHashCode_1 : List UInt8 := [17, 0, 255, 126, 96, 59, 132, 5, 1, 167, 255, 232, 26, 172]
abbrev dktJ24_signedHashCode_1 : List UInt8 := dkwJ24_signedHashCode_1 ++ []
def dkwJ24_signedHashCode_0 : List UInt8 := [28, 29, 96, 54, 4, 28, 54, 5, 21, 5, 21, 4, 162, 0, 23, 16, 31, 26, 104, 43, 21, 5, 51]
abbrev dktJ24_signedHashCode_0 : List UInt8 := dkwJ24_signedHashCode_0 ++ dktJ24_signedHashCode_1
theorem dksJ24_signedHashCode_0 : cJ24_signedHashCode.data.toList.drop 0 = dktJ24_signedHashCode_0 := by decide +kernel
theorem dksJ24_signedHashCode_1 : cJ24_signedHashCode.data.toList.drop 23 = dktJ24_signedHashCode_1 := dk_seg dksJ24_signedHashCode_0 23 rfl rfl
theorem dJ24_signedHashCode_0 : decode cJ24_signedHashCode 0 = .ok (.iload_n 2, 1) := dk_28 (dk_at dksJ24_signedHashCode_0 0 rfl rfl)
theorem dJ24_signedHashCode_1 : decode cJ24_signedHashCode 1 = .ok (.iload_n 3, 1) := dk_29 (dk_at dksJ24_signedHashCode_0 1 rfl rfl)
theorem dJ24_signedHashCode_2 : decode cJ24_signedHashCode 2 = .ok (.iadd, 1) := dk_96 (dk_at dksJ24_signedHashCode_0 2 rfl rfl)
theorem dJ24_signedHashCode_3 : decode cJ24_signedHashCode 3 = .ok (.istore 4, 2) := dk_54 4 (dk_at dksJ24_signedHashCode_0 3 rfl rfl)
theorem dJ24_signedHashCode_5 : decode cJ24_signedHashCode 5 = .ok (.iload_n 2, 1) := dk_28 (dk_at dksJ24_signedHashCode_0 5 rfl rfl)
theorem dJ24_signedHashCode_6 : decode cJ24_signedHashCode 6 = .ok (.istore 5, 2) := dk_54 5 (dk_at dksJ24_signedHashCode_0 6 rfl rfl)
theorem dJ24_signedHashCode_8 : decode cJ24_signedHashCode 8 = .ok (.iload 5, 2) := dk_21 5 (dk_at dksJ24_signedHashCode_0 8 rfl rfl)
theorem dJ24_signedHashCode_10 : decode cJ24_signedHashCode 10 = .ok (.iload 4, 2) := dk_21 4 (dk_at dksJ24_signedHashCode_0 10 rfl rfl)
theorem dJ24_signedHashCode_12 : decode cJ24_signedHashCode 12 = .ok (.if_icmp .ge 23, 3) := dk_162 0 23 (dk_at dksJ24_signedHashCode_0 12 rfl rfl)
theorem dJ24_signedHashCode_15 : decode cJ24_signedHashCode 15 = .ok (.bipush 31, 2) := dk_16 31 (dk_at dksJ24_signedHashCode_0 15 rfl rfl)
theorem dJ24_signedHashCode_17 : decode cJ24_signedHashCode 17 = .ok (.iload_n 0, 1) := dk_26 (dk_at dksJ24_signedHashCode_0 17 rfl rfl)
theorem dJ24_signedHashCode_18 : decode cJ24_signedHashCode 18 = .ok (.imul, 1) := dk_104 (dk_at dksJ24_signedHashCode_0 18 rfl rfl)
theorem dJ24_signedHashCode_19 : decode cJ24_signedHashCode 19 = .ok (.aload_n 1, 1) := dk_43 (dk_at dksJ24_signedHashCode_0 19 rfl rfl)
theorem dJ24_signedHashCode_20 : decode cJ24_signedHashCode 20 = .ok (.iload 5, 2) := dk_21 5 (dk_at dksJ24_signedHashCode_0 20 rfl rfl)
theorem dJ24_signedHashCode_22 : decode cJ24_signedHashCode 22 = .ok (.baload, 1) := dk_51 (dk_at dksJ24_signedHashCode_0 22 rfl rfl)
theorem dJ24_signedHashCode_23 : decode cJ24_signedHashCode 23 = .ok (.sipush 255, 3) := dk_17 0 255 (dk_at dksJ24_signedHashCode_1 0 rfl rfl)
theorem dJ24_signedHashCode_26 : decode cJ24_signedHashCode 26 = .ok (.iand, 1) := dk_126 (dk_at dksJ24_signedHashCode_1 3 rfl rfl)
theorem dJ24_signedHashCode_27 : decode cJ24_signedHashCode 27 = .ok (.iadd, 1) := dk_96 (dk_at dksJ24_signedHashCode_1 4 rfl rfl)
theorem dJ24_signedHashCode_28 : decode cJ24_signedHashCode 28 = .ok (.istore_n 0, 1) := dk_59 (dk_at dksJ24_signedHashCode_1 5 rfl rfl)
theorem dJ24_signedHashCode_29 : decode cJ24_signedHashCode 29 = .ok (.iinc 5 1, 3) := dk_132 5 1 (dk_at dksJ24_signedHashCode_1 6 rfl rfl)
theorem dJ24_signedHashCode_32 : decode cJ24_signedHashCode 32 = .ok (.goto (-24), 3) := dk_167 255 232 (dk_at dksJ24_signedHashCode_1 9 rfl rfl)
theorem dJ24_signedHashCode_35 : decode cJ24_signedHashCode 35 = .ok (.iload_n 0, 1) := dk_26 (dk_at dksJ24_signedHashCode_1 12 rfl rfl)
theorem dJ24_signedHashCode_36 : decode cJ24_signedHashCode 36 = .ok (.ireturn, 1) := dk_172 (dk_at dksJ24_signedHashCode_1 13 rfl rfl)
abbrev cJ24_hashCode_2 : ByteArray := prog_38_method_6_code
def yJ24_hashCode_2 : MethodName := ⟨RJ24, "hashCode", "(I[BII)I"⟩
def dkwJ24_hashCode_2_1 : List UInt8 := [59, 132, 5, 1, 167, 255, 236, 26, 172]
abbrev dktJ24_hashCode_2_1 : List UInt8 := dkwJ24_hashCode_2_1 ++ []
def dkwJ24_hashCode_2_0 : List UInt8 := [28, 29, 96, 54, 4, 28, 54, 5, 21, 5, 21, 4, 162, 0, 19, 16, 31, 26, 104, 43, 21, 5, 51, 96]
abbrev dktJ24_hashCode_2_0 : List UInt8 := dkwJ24_hashCode_2_0 ++ dktJ24_hashCode_2_1
theorem dksJ24_hashCode_2_0 : cJ24_hashCode_2.data.toList.drop 0 = dktJ24_hashCode_2_0 := by decide +kernel
theorem dksJ24_hashCode_2_1 : cJ24_hashCode_2.data.toList.drop 24 = dktJ24_hashCode_2_1 := dk_seg dksJ24_hashCode_2_0 24 rfl rfl
theorem dJ24_hashCode_2_0 : decode cJ24_hashCode_2 0 = .ok (.iload_n 2, 1) := dk_28 (dk_at dksJ24_hashCode_2_0 0 rfl rfl)
theorem dJ24_hashCode_2_1 : decode cJ24_hashCode_2 1 = .ok (.iload_n 3, 1) := dk_29 (dk_at dksJ24_hashCode_2_0 1 rfl rfl)
theorem dJ24_hashCode_2_2 : decode cJ24_hashCode_2 2 = .ok (.iadd, 1) := dk_96 (dk_at dksJ24_hashCode_2_0 2 rfl rfl)
theorem dJ24_hashCode_2_3 : decode cJ24_hashCode_2 3 = .ok (.istore 4, 2) := dk_54 4 (dk_at dksJ24_hashCode_2_0 3 rfl rfl)
theorem dJ24_hashCode_2_5 : decode cJ24_hashCode_2 5 = .ok (.iload_n 2, 1) := dk_28 (dk_at dksJ24_hashCode_2_0 5 rfl rfl)
theorem dJ24_hashCode_2_6 : decode cJ24_hashCode_2 6 = .ok (.istore 5, 2) := dk_54 5 (dk_at dksJ24_hashCode_2_0 6 rfl rfl)
theorem dJ24_hashCode_2_8 : decode cJ24_hashCode_2 8 = .ok (.iload 5, 2) := dk_21 5 (dk_at dksJ24_hashCode_2_0 8 rfl rfl)
theorem dJ24_hashCode_2_10 : decode cJ24_hashCode_2 10 = .ok (.iload 4, 2) := dk_21 4 (dk_at dksJ24_hashCode_2_0 10 rfl rfl)
theorem dJ24_hashCode_2_12 : decode cJ24_hashCode_2 12 = .ok (.if_icmp .ge 19, 3) := dk_162 0 19 (dk_at dksJ24_hashCode_2_0 12 rfl rfl)
theorem dJ24_hashCode_2_15 : decode cJ24_hashCode_2 15 = .ok (.bipush 31, 2) := dk_16 31 (dk_at dksJ24_hashCode_2_0 15 rfl rfl)
theorem dJ24_hashCode_2_17 : decode cJ24_hashCode_2 17 = .ok (.iload_n 0, 1) := dk_26 (dk_at dksJ24_hashCode_2_0 17 rfl rfl)
theorem dJ24_hashCode_2_18 : decode cJ24_hashCode_2 18 = .ok (.imul, 1) := dk_104 (dk_at dksJ24_hashCode_2_0 18 rfl rfl)
theorem dJ24_hashCode_2_19 : decode cJ24_hashCode_2 19 = .ok (.aload_n 1, 1) := dk_43 (dk_at dksJ24_hashCode_2_0 19 rfl rfl)
theorem dJ24_hashCode_2_20 : decode cJ24_hashCode_2 20 = .ok (.iload 5, 2) := dk_21 5 (dk_at dksJ24_hashCode_2_0 20 rfl rfl)
theorem dJ24_hashCode_2_22 : decode cJ24_hashCode_2 22 = .ok (.baload, 1) := dk_51 (dk_at dksJ24_hashCode_2_0 22 rfl rfl)
theorem dJ24_hashCode_2_23 : decode cJ24_hashCode_2 23 = .ok (.iadd, 1) := dk_96 (dk_at dksJ24_hashCode_2_0 23 rfl rfl)
theorem dJ24_hashCode_2_24 : decode cJ24_hashCode_2 24 = .ok (.istore_n 0, 1) := dk_59 (dk_at dksJ24_hashCode_2_1 0 rfl rfl)
theorem dJ24_hashCode_2_25 : decode cJ24_hashCode_2 25 = .ok (.iinc 5 1, 3) := dk_132 5 1 (dk_at dksJ24_hashCode_2_1 1 rfl rfl)
theorem dJ24_hashCode_2_28 : decode cJ24_hashCode_2 28 = .ok (.goto (-20), 3) := dk_167 255 236 (dk_at dksJ24_hashCode_2_1 4 rfl rfl)
theorem dJ24_hashCode_2_31 : decode cJ24_hashCode_2 31 = .ok (.iload_n 0, 1) := dk_26 (dk_at dksJ24_hashCode_2_1 7 rfl rfl)
theorem dJ24_hashCode_2_32 : decode cJ24_hashCode_2 32 = .ok (.ireturn, 1) := dk_172 (dk_at dksJ24_hashCode_2_1 8 rfl rfl)
theorem q66 : (Jvm.Cond.initialized "jdk/internal/util/ArraysSupport") ∈ lw_all := lw_g (lw_at lw_m1 27 rfl) rfl
theorem q586 : (Jvm.Cond.static ({ cls := "jdk/internal/util/ArraysSupport", name := "newLength", desc := "(III)I" } : Jvm.MethodName)) ∈ lw_all := lw_g (lw_at lw_m3 67 rfl) rfl
theorem q587 : (Jvm.Cond.code ({ cls := "jdk/internal/util/ArraysSupport", name := "newLength", desc := "(III)I" } : Jvm.MethodName) prog_38_method_27_code (4 : Nat) (Option.some Jvm.ClassFile.FieldType.int)) ∈ lw_all := lw_g (lw_at lw_m3 68 rfl) rfl
theorem q588 : (Jvm.Cond.methodLink "jdk/internal/util/ArraysSupport" (194 : Nat) ({ cls := "java/lang/Math", name := "max", desc := "(II)I" } : Jvm.MethodName)) ∈ lw_all := lw_g (lw_at lw_m3 69 rfl) rfl
theorem q589 : (Jvm.Cond.constant "jdk/internal/util/ArraysSupport" (200 : Nat) (2147483639 : Int32)) ∈ lw_all := lw_g (lw_at lw_m3 70 rfl) rfl
theorem q590 : (Jvm.Cond.methodLink "jdk/internal/util/ArraysSupport" (201 : Nat) ({ cls := "jdk/internal/util/ArraysSupport", name := "hugeLength", desc := "(II)I" } : Jvm.MethodName)) ∈ lw_all := lw_g (lw_at lw_m3 71 rfl) rfl
theorem q591 : (Jvm.Cond.static ({ cls := "jdk/internal/util/ArraysSupport", name := "hugeLength", desc := "(II)I" } : Jvm.MethodName)) ∈ lw_all := lw_g (lw_at lw_m3 72 rfl) rfl
theorem q592 : (Jvm.Cond.code ({ cls := "jdk/internal/util/ArraysSupport", name := "hugeLength", desc := "(II)I" } : Jvm.MethodName) prog_38_method_28_code (3 : Nat) (Option.some Jvm.ClassFile.FieldType.int)) ∈ lw_all := lw_g (lw_at lw_m3 73 rfl) rfl
theorem q1617 : (Jvm.Cond.static ({ cls := "jdk/internal/util/ArraysSupport", name := "vectorizedHashCode", desc := "(Ljava/lang/Object;IIII)I" } : Jvm.MethodName)) ∈ lw_all := lw_g (lw_at lw_m7 138 rfl) rfl
theorem q1618 : (Jvm.Cond.code ({ cls := "jdk/internal/util/ArraysSupport", name := "vectorizedHashCode", desc := "(Ljava/lang/Object;IIII)I" } : Jvm.MethodName) prog_38_method_4_code (5 : Nat) (Option.some Jvm.ClassFile.FieldType.int)) ∈ lw_all := lw_g (lw_at lw_m7 139 rfl) rfl
theorem q1619 : (Jvm.Cond.classLink "jdk/internal/util/ArraysSupport" (60 : Nat) "[B") ∈ lw_all := lw_g (lw_at lw_m7 140 rfl) rfl
theorem q1620 : (Jvm.Cond.methodLink "jdk/internal/util/ArraysSupport" (62 : Nat) ({ cls := "jdk/internal/util/ArraysSupport", name := "signedHashCode", desc := "(I[BII)I" } : Jvm.MethodName)) ∈ lw_all := lw_g (lw_at lw_m7 141 rfl) rfl
theorem q1621 : (Jvm.Cond.static ({ cls := "jdk/internal/util/ArraysSupport", name := "signedHashCode", desc := "(I[BII)I" } : Jvm.MethodName)) ∈ lw_all := lw_g (lw_at lw_m7 142 rfl) rfl
theorem q1622 : (Jvm.Cond.code ({ cls := "jdk/internal/util/ArraysSupport", name := "signedHashCode", desc := "(I[BII)I" } : Jvm.MethodName) prog_38_method_5_code (6 : Nat) (Option.some Jvm.ClassFile.FieldType.int)) ∈ lw_all := lw_g (lw_at lw_m7 143 rfl) rfl
theorem q1623 : (Jvm.Cond.methodLink "jdk/internal/util/ArraysSupport" (66 : Nat) ({ cls := "jdk/internal/util/ArraysSupport", name := "utf16hashCode", desc := "(I[BII)I" } : Jvm.MethodName)) ∈ lw_all := lw_g (lw_at lw_m7 144 rfl) rfl
theorem q1624 : (Jvm.Cond.static ({ cls := "jdk/internal/util/ArraysSupport", name := "utf16hashCode", desc := "(I[BII)I" } : Jvm.MethodName)) ∈ lw_all := lw_g (lw_at lw_m7 145 rfl) rfl
theorem q1625 : (Jvm.Cond.code ({ cls := "jdk/internal/util/ArraysSupport", name := "utf16hashCode", desc := "(I[BII)I" } : Jvm.MethodName) prog_38_method_10_code (6 : Nat) (Option.some Jvm.ClassFile.FieldType.int)) ∈ lw_all := lw_g (lw_at lw_m7 146 rfl) rfl
theorem q1626 : (Jvm.Cond.fieldLink "jdk/internal/util/ArraysSupport" (106 : Nat) "jdk/internal/util/ArraysSupport" "JLA" "Ljdk/internal/access/JavaLangAccess;") ∈ lw_all := lw_g (lw_at lw_m7 147 rfl) rfl
theorem q1627 : (Jvm.Cond.laysStatic "jdk/internal/util/ArraysSupport" "JLA" "Ljdk/internal/access/JavaLangAccess;") ∈ lw_tbl := lw_at lw_m7 148 rfl
theorem q1628 : (Jvm.Cond.interfaceEntry "jdk/internal/util/ArraysSupport" (110 : Nat)) ∈ lw_tbl := lw_at lw_m7 149 rfl
theorem q1629 : (Jvm.Cond.methodLink "jdk/internal/util/ArraysSupport" (110 : Nat) ({ cls := "jdk/internal/access/JavaLangAccess", name := "getUTF16Char", desc := "([BI)C" } : Jvm.MethodName)) ∈ lw_all := lw_g (lw_at lw_m7 150 rfl) rfl
theorem q1639 : (Jvm.Cond.classLink "jdk/internal/util/ArraysSupport" (69 : Nat) "[C") ∈ lw_all := lw_g (lw_at lw_m7 160 rfl) rfl
theorem q1640 : (Jvm.Cond.methodLink "jdk/internal/util/ArraysSupport" (71 : Nat) ({ cls := "jdk/internal/util/ArraysSupport", name := "hashCode", desc := "(I[CII)I" } : Jvm.MethodName)) ∈ lw_all := lw_g (lw_at lw_m7 161 rfl) rfl
theorem q1641 : (Jvm.Cond.static ({ cls := "jdk/internal/util/ArraysSupport", name := "hashCode", desc := "(I[CII)I" } : Jvm.MethodName)) ∈ lw_all := lw_g (lw_at lw_m7 162 rfl) rfl
theorem q1642 : (Jvm.Cond.code ({ cls := "jdk/internal/util/ArraysSupport", name := "hashCode", desc := "(I[CII)I" } : Jvm.MethodName) prog_38_method_7_code (6 : Nat) (Option.some Jvm.ClassFile.FieldType.int)) ∈ lw_all := lw_g (lw_at lw_m7 163 rfl) rfl
theorem q1643 : (Jvm.Cond.methodLink "jdk/internal/util/ArraysSupport" (75 : Nat) ({ cls := "jdk/internal/util/ArraysSupport", name := "hashCode", desc := "(I[BII)I" } : Jvm.MethodName)) ∈ lw_all := lw_g (lw_at lw_m7 164 rfl) rfl
theorem q1644 : (Jvm.Cond.static ({ cls := "jdk/internal/util/ArraysSupport", name := "hashCode", desc := "(I[BII)I" } : Jvm.MethodName)) ∈ lw_all := lw_g (lw_at lw_m7 165 rfl) rfl
theorem q1645 : (Jvm.Cond.code ({ cls := "jdk/internal/util/ArraysSupport", name := "hashCode", desc := "(I[BII)I" } : Jvm.MethodName) prog_38_method_6_code (6 : Nat) (Option.some Jvm.ClassFile.FieldType.int)) ∈ lw_all := lw_g (lw_at lw_m7 166 rfl) rfl
theorem q1646 : (Jvm.Cond.classLink "jdk/internal/util/ArraysSupport" (77 : Nat) "[S") ∈ lw_all := lw_g (lw_at lw_m7 167 rfl) rfl
theorem q1647 : (Jvm.Cond.methodLink "jdk/internal/util/ArraysSupport" (79 : Nat) ({ cls := "jdk/internal/util/ArraysSupport", name := "hashCode", desc := "(I[SII)I" } : Jvm.MethodName)) ∈ lw_all := lw_g (lw_at lw_m7 168 rfl) rfl
theorem q1648 : (Jvm.Cond.static ({ cls := "jdk/internal/util/ArraysSupport", name := "hashCode", desc := "(I[SII)I" } : Jvm.MethodName)) ∈ lw_all := lw_g (lw_at lw_m7 169 rfl) rfl
theorem q1649 : (Jvm.Cond.code ({ cls := "jdk/internal/util/ArraysSupport", name := "hashCode", desc := "(I[SII)I" } : Jvm.MethodName) prog_38_method_8_code (6 : Nat) (Option.some Jvm.ClassFile.FieldType.int)) ∈ lw_all := lw_g (lw_at lw_m7 170 rfl) rfl
theorem q1650 : (Jvm.Cond.classLink "jdk/internal/util/ArraysSupport" (82 : Nat) "[I") ∈ lw_all := lw_g (lw_at lw_m7 171 rfl) rfl
theorem q1651 : (Jvm.Cond.methodLink "jdk/internal/util/ArraysSupport" (84 : Nat) ({ cls := "jdk/internal/util/ArraysSupport", name := "hashCode", desc := "(I[III)I" } : Jvm.MethodName)) ∈ lw_all := lw_g (lw_at lw_m7 172 rfl) rfl
theorem q1652 : (Jvm.Cond.static ({ cls := "jdk/internal/util/ArraysSupport", name := "hashCode", desc := "(I[III)I" } : Jvm.MethodName)) ∈ lw_all := lw_g (lw_at lw_m7 173 rfl) rfl
theorem q1653 : (Jvm.Cond.code ({ cls := "jdk/internal/util/ArraysSupport", name := "hashCode", desc := "(I[III)I" } : Jvm.MethodName) prog_38_method_9_code (6 : Nat) (Option.some Jvm.ClassFile.FieldType.int)) ∈ lw_all := lw_g (lw_at lw_m7 174 rfl) rfl
theorem q1654 : (Jvm.Cond.classLink "jdk/internal/util/ArraysSupport" (87 : Nat) "java/lang/IllegalArgumentException") ∈ lw_all := lw_g (lw_at lw_m7 175 rfl) rfl
theorem q1655 : (Jvm.Cond.classLink "jdk/internal/util/ArraysSupport" (89 : Nat) "java/lang/StringBuilder") ∈ lw_all := lw_g (lw_at lw_m7 176 rfl) rfl
theorem q1656 : (Jvm.Cond.methodLink "jdk/internal/util/ArraysSupport" (91 : Nat) ({ cls := "java/lang/StringBuilder", name := "<init>", desc := "()V" } : Jvm.MethodName)) ∈ lw_all := lw_g (lw_at lw_m7 177 rfl) rfl
theorem q1657 : (Jvm.Cond.stringRef "jdk/internal/util/ArraysSupport" (92 : Nat) "unrecognized basic type: ") ∈ lw_tbl := lw_at lw_m7 178 rfl
theorem q1658 : (Jvm.Cond.methodLink "jdk/internal/util/ArraysSupport" (94 : Nat) ({ cls := "java/lang/StringBuilder", name := "append", desc := "(Ljava/lang/String;)Ljava/lang/StringBuilder;" } : Jvm.MethodName)) ∈ lw_all := lw_g (lw_at lw_m7 179 rfl) rfl
theorem q1659 : (Jvm.Cond.methodLink "jdk/internal/util/ArraysSupport" (98 : Nat) ({ cls := "java/lang/StringBuilder", name := "append", desc := "(I)Ljava/lang/StringBuilder;" } : Jvm.MethodName)) ∈ lw_all := lw_g (lw_at lw_m7 180 rfl) rfl
theorem q1660 : (Jvm.Cond.methodLink "jdk/internal/util/ArraysSupport" (101 : Nat) ({ cls := "java/lang/StringBuilder", name := "toString", desc := "()Ljava/lang/String;" } : Jvm.MethodName)) ∈ lw_all := lw_g (lw_at lw_m7 181 rfl) rfl
theorem q1661 : (Jvm.Cond.methodLink "jdk/internal/util/ArraysSupport" (105 : Nat) ({ cls := "java/lang/IllegalArgumentException", name := "<init>", desc := "(Ljava/lang/String;)V" } : Jvm.MethodName)) ∈ lw_all := lw_g (lw_at lw_m7 182 rfl) rfl
/-! java/lang/StringLatin1 -/
set_option maxRecDepth 100000
def RJ25 : String := "java/lang/StringLatin1"
abbrev cJ25_inflate : ByteArray := prog_28_method_50_code
def yJ25_inflate : MethodName := ⟨RJ25, "inflate", "([BI[BII)V"⟩
def dkwJ25_inflate_0 : List UInt8 := [42, 27, 44, 29, 21, 4, 184, 0, 240, 177]
abbrev dktJ25_inflate_0 : List UInt8 := dkwJ25_inflate_0 ++ []
theorem dksJ25_inflate_0 : cJ25_inflate.data.toList.drop 0 = dktJ25_inflate_0 := by decide +kernel
theorem dJ25_inflate_0 : decode cJ25_inflate 0 = .ok (.aload_n 0, 1) := dk_42 (dk_at dksJ25_inflate_0 0 rfl rfl)
theorem dJ25_inflate_1 : decode cJ25_inflate 1 = .ok (.iload_n 1, 1) := dk_27 (dk_at dksJ25_inflate_0 1 rfl rfl)
theorem dJ25_inflate_2 : decode cJ25_inflate 2 = .ok (.aload_n 2, 1) := dk_44 (dk_at dksJ25_inflate_0 2 rfl rfl)
theorem dJ25_inflate_3 : decode cJ25_inflate 3 = .ok (.iload_n 3, 1) := dk_29 (dk_at dksJ25_inflate_0 3 rfl rfl)
theorem dJ25_inflate_4 : decode cJ25_inflate 4 = .ok (.iload 4, 2) := dk_21 4 (dk_at dksJ25_inflate_0 4 rfl rfl)
theorem dJ25_inflate_6 : decode cJ25_inflate 6 = .ok (.invokestatic 240, 3) := dk_184 0 240 (dk_at dksJ25_inflate_0 6 rfl rfl)
theorem dJ25_inflate_9 : decode cJ25_inflate 9 = .ok (.return_, 1) := dk_177 (dk_at dksJ25_inflate_0 9 rfl rfl)
abbrev cJ25_canEncode : ByteArray := prog_28_method_3_code
def yJ25_canEncode : MethodName := ⟨RJ25, "canEncode", "(C)Z"⟩
def dkwJ25_canEncode_0 : List UInt8 := [26, 17, 0, 255, 163, 0, 7, 4, 167, 0, 4, 3, 172]
abbrev dktJ25_canEncode_0 : List UInt8 := dkwJ25_canEncode_0 ++ []
theorem dksJ25_canEncode_0 : cJ25_canEncode.data.toList.drop 0 = dktJ25_canEncode_0 := by decide +kernel
theorem dJ25_canEncode_0 : decode cJ25_canEncode 0 = .ok (.iload_n 0, 1) := dk_26 (dk_at dksJ25_canEncode_0 0 rfl rfl)
theorem dJ25_canEncode_1 : decode cJ25_canEncode 1 = .ok (.sipush 255, 3) := dk_17 0 255 (dk_at dksJ25_canEncode_0 1 rfl rfl)
theorem dJ25_canEncode_4 : decode cJ25_canEncode 4 = .ok (.if_icmp .gt 7, 3) := dk_163 0 7 (dk_at dksJ25_canEncode_0 4 rfl rfl)
theorem dJ25_canEncode_7 : decode cJ25_canEncode 7 = .ok (.iconst 1, 1) := dk_4 (dk_at dksJ25_canEncode_0 7 rfl rfl)
theorem dJ25_canEncode_8 : decode cJ25_canEncode 8 = .ok (.goto 4, 3) := dk_167 0 4 (dk_at dksJ25_canEncode_0 8 rfl rfl)
theorem dJ25_canEncode_11 : decode cJ25_canEncode 11 = .ok (.iconst 0, 1) := dk_3 (dk_at dksJ25_canEncode_0 11 rfl rfl)
theorem dJ25_canEncode_12 : decode cJ25_canEncode 12 = .ok (.ireturn, 1) := dk_172 (dk_at dksJ25_canEncode_0 12 rfl rfl)
abbrev cJ25_indexOf : ByteArray := prog_28_method_22_code
def yJ25_indexOf : MethodName := ⟨RJ25, "indexOf", "([BIII)I"⟩
def dkwJ25_indexOf_1 : List UInt8 := [161, 0, 5, 2, 172, 42, 27, 28, 29, 184, 0, 95, 172]
abbrev dktJ25_indexOf_1 : List UInt8 := dkwJ25_indexOf_1 ++ []
def dkwJ25_indexOf_0 : List UInt8 := [27, 184, 0, 88, 154, 0, 5, 2, 172, 28, 3, 184, 0, 92, 61, 29, 42, 190, 184, 0, 38, 62, 28, 29]
abbrev dktJ25_indexOf_0 : List UInt8 := dkwJ25_indexOf_0 ++ dktJ25_indexOf_1
theorem dksJ25_indexOf_0 : cJ25_indexOf.data.toList.drop 0 = dktJ25_indexOf_0 := by decide +kernel
theorem dksJ25_indexOf_1 : cJ25_indexOf.data.toList.drop 24 = dktJ25_indexOf_1 := dk_seg dksJ25_indexOf_0 24 rfl rfl
theorem dJ25_indexOf_0 : decode cJ25_indexOf 0 = .ok (.iload_n 1, 1) := dk_27 (dk_at dksJ25_indexOf_0 0 rfl rfl)
theorem dJ25_indexOf_1 : decode cJ25_indexOf 1 = .ok (.invokestatic 88, 3) := dk_184 0 88 (dk_at dksJ25_indexOf_0 1 rfl rfl)
theorem dJ25_indexOf_4 : decode cJ25_indexOf 4 = .ok (.ifCond .ne 5, 3) := dk_154 0 5 (dk_at dksJ25_indexOf_0 4 rfl rfl)
theorem dJ25_indexOf_7 : decode cJ25_indexOf 7 = .ok (.iconst (-1), 1) := dk_2 (dk_at dksJ25_indexOf_0 7 rfl rfl)
theorem dJ25_indexOf_8 : decode cJ25_indexOf 8 = .ok (.ireturn, 1) := dk_172 (dk_at dksJ25_indexOf_0 8 rfl rfl)
theorem dJ25_indexOf_9 : decode cJ25_indexOf 9 = .ok (.iload_n 2, 1) := dk_28 (dk_at dksJ25_indexOf_0 9 rfl rfl)
theorem dJ25_indexOf_10 : decode cJ25_indexOf 10 = .ok (.iconst 0, 1) := dk_3 (dk_at dksJ25_indexOf_0 10 rfl rfl)
theorem dJ25_indexOf_11 : decode cJ25_indexOf 11 = .ok (.invokestatic 92, 3) := dk_184 0 92 (dk_at dksJ25_indexOf_0 11 rfl rfl)
theorem dJ25_indexOf_14 : decode cJ25_indexOf 14 = .ok (.istore_n 2, 1) := dk_61 (dk_at dksJ25_indexOf_0 14 rfl rfl)
theorem dJ25_indexOf_15 : decode cJ25_indexOf 15 = .ok (.iload_n 3, 1) := dk_29 (dk_at dksJ25_indexOf_0 15 rfl rfl)
theorem dJ25_indexOf_16 : decode cJ25_indexOf 16 = .ok (.aload_n 0, 1) := dk_42 (dk_at dksJ25_indexOf_0 16 rfl rfl)
theorem dJ25_indexOf_17 : decode cJ25_indexOf 17 = .ok (.arraylength, 1) := dk_190 (dk_at dksJ25_indexOf_0 17 rfl rfl)
theorem dJ25_indexOf_18 : decode cJ25_indexOf 18 = .ok (.invokestatic 38, 3) := dk_184 0 38 (dk_at dksJ25_indexOf_0 18 rfl rfl)
theorem dJ25_indexOf_21 : decode cJ25_indexOf 21 = .ok (.istore_n 3, 1) := dk_62 (dk_at dksJ25_indexOf_0 21 rfl rfl)
theorem dJ25_indexOf_22 : decode cJ25_indexOf 22 = .ok (.iload_n 2, 1) := dk_28 (dk_at dksJ25_indexOf_0 22 rfl rfl)
theorem dJ25_indexOf_23 : decode cJ25_indexOf 23 = .ok (.iload_n 3, 1) := dk_29 (dk_at dksJ25_indexOf_0 23 rfl rfl)
theorem dJ25_indexOf_24 : decode cJ25_indexOf 24 = .ok (.if_icmp .lt 5, 3) := dk_161 0 5 (dk_at dksJ25_indexOf_1 0 rfl rfl)
theorem dJ25_indexOf_27 : decode cJ25_indexOf 27 = .ok (.iconst (-1), 1) := dk_2 (dk_at dksJ25_indexOf_1 3 rfl rfl)
theorem dJ25_indexOf_28 : decode cJ25_indexOf 28 = .ok (.ireturn, 1) := dk_172 (dk_at dksJ25_indexOf_1 4 rfl rfl)
theorem dJ25_indexOf_29 : decode cJ25_indexOf 29 = .ok (.aload_n 0, 1) := dk_42 (dk_at dksJ25_indexOf_1 5 rfl rfl)
theorem dJ25_indexOf_30 : decode cJ25_indexOf 30 = .ok (.iload_n 1, 1) := dk_27 (dk_at dksJ25_indexOf_1 6 rfl rfl)
theorem dJ25_indexOf_31 : decode cJ25_indexOf 31 = .ok (.iload_n 2, 1) := dk_28 (dk_at dksJ25_indexOf_1 7 rfl rfl)
theorem dJ25_indexOf_32 : decode cJ25_indexOf 32 = .ok (.iload_n 3, 1) := dk_29 (dk_at dksJ25_indexOf_1 8 rfl rfl)
theorem dJ25_indexOf_33 : decode cJ25_indexOf 33 = .ok (.invokestatic 95, 3) := dk_184 0 95 (dk_at dksJ25_indexOf_1 9 rfl rfl)
theorem dJ25_indexOf_36 : decode cJ25_indexOf 36 = .ok (.ireturn, 1) := dk_172 (dk_at dksJ25_indexOf_1 12 rfl rfl)
abbrev cJ25_canEncode_2 : ByteArray := prog_28_method_4_code
def yJ25_canEncode_2 : MethodName := ⟨RJ25, "canEncode", "(I)Z"⟩
def dkwJ25_canEncode_2_0 : List UInt8 := [26, 155, 0, 14, 26, 17, 0, 255, 163, 0, 7, 4, 167, 0, 4, 3, 172]
abbrev dktJ25_canEncode_2_0 : List UInt8 := dkwJ25_canEncode_2_0 ++ []
theorem dksJ25_canEncode_2_0 : cJ25_canEncode_2.data.toList.drop 0 = dktJ25_canEncode_2_0 := by decide +kernel
theorem dJ25_canEncode_2_0 : decode cJ25_canEncode_2 0 = .ok (.iload_n 0, 1) := dk_26 (dk_at dksJ25_canEncode_2_0 0 rfl rfl)
theorem dJ25_canEncode_2_1 : decode cJ25_canEncode_2 1 = .ok (.ifCond .lt 14, 3) := dk_155 0 14 (dk_at dksJ25_canEncode_2_0 1 rfl rfl)
theorem dJ25_canEncode_2_4 : decode cJ25_canEncode_2 4 = .ok (.iload_n 0, 1) := dk_26 (dk_at dksJ25_canEncode_2_0 4 rfl rfl)
theorem dJ25_canEncode_2_5 : decode cJ25_canEncode_2 5 = .ok (.sipush 255, 3) := dk_17 0 255 (dk_at dksJ25_canEncode_2_0 5 rfl rfl)
theorem dJ25_canEncode_2_8 : decode cJ25_canEncode_2 8 = .ok (.if_icmp .gt 7, 3) := dk_163 0 7 (dk_at dksJ25_canEncode_2_0 8 rfl rfl)
theorem dJ25_canEncode_2_11 : decode cJ25_canEncode_2 11 = .ok (.iconst 1, 1) := dk_4 (dk_at dksJ25_canEncode_2_0 11 rfl rfl)
theorem dJ25_canEncode_2_12 : decode cJ25_canEncode_2 12 = .ok (.goto 4, 3) := dk_167 0 4 (dk_at dksJ25_canEncode_2_0 12 rfl rfl)
theorem dJ25_canEncode_2_15 : decode cJ25_canEncode_2 15 = .ok (.iconst 0, 1) := dk_3 (dk_at dksJ25_canEncode_2_0 15 rfl rfl)
theorem dJ25_canEncode_2_16 : decode cJ25_canEncode_2 16 = .ok (.ireturn, 1) := dk_172 (dk_at dksJ25_canEncode_2_0 16 rfl rfl)
abbrev cJ25_indexOfChar : ByteArray := prog_28_method_23_code
def yJ25_indexOfChar : MethodName := ⟨RJ25, "indexOfChar", "([BIII)I"⟩
def dkwJ25_indexOfChar_1 : List UInt8 := [172, 132, 5, 1, 167, 255, 235, 2, 172]
abbrev dktJ25_indexOfChar_1 : List UInt8 := dkwJ25_indexOfChar_1 ++ []
def dkwJ25_indexOfChar_0 : List UInt8 := [27, 145, 54, 4, 28, 54, 5, 21, 5, 29, 162, 0, 21, 42, 21, 5, 51, 21, 4, 160, 0, 6, 21, 5]
abbrev dktJ25_indexOfChar_0 : List UInt8 := dkwJ25_indexOfChar_0 ++ dktJ25_indexOfChar_1
theorem dksJ25_indexOfChar_0 : cJ25_indexOfChar.data.toList.drop 0 = dktJ25_indexOfChar_0 := by decide +kernel
theorem dksJ25_indexOfChar_1 : cJ25_indexOfChar.data.toList.drop 24 = dktJ25_indexOfChar_1 := dk_seg dksJ25_indexOfChar_0 24 rfl rfl
theorem dJ25_indexOfChar_0 : decode cJ25_indexOfChar 0 = .ok (.iload_n 1, 1) := dk_27 (dk_at dksJ25_indexOfChar_0 0 rfl rfl)
theorem dJ25_indexOfChar_1 : decode cJ25_indexOfChar 1 = .ok (.i2b, 1) := dk_145 (dk_at dksJ25_indexOfChar_0 1 rfl rfl)
theorem dJ25_indexOfChar_2 : decode cJ25_indexOfChar 2 = .ok (.istore 4, 2) := dk_54 4 (dk_at dksJ25_indexOfChar_0 2 rfl rfl)
theorem dJ25_indexOfChar_4 : decode cJ25_indexOfChar 4 = .ok (.iload_n 2, 1) := dk_28 (dk_at dksJ25_indexOfChar_0 4 rfl rfl)
theorem dJ25_indexOfChar_5 : decode cJ25_indexOfChar 5 = .ok (.istore 5, 2) := dk_54 5 (dk_at dksJ25_indexOfChar_0 5 rfl rfl)
theorem dJ25_indexOfChar_7 : decode cJ25_indexOfChar 7 = .ok (.iload 5, 2) := dk_21 5 (dk_at dksJ25_indexOfChar_0 7 rfl rfl)
theorem dJ25_indexOfChar_9 : decode cJ25_indexOfChar 9 = .ok (.iload_n 3, 1) := dk_29 (dk_at dksJ25_indexOfChar_0 9 rfl rfl)
theorem dJ25_indexOfChar_10 : decode cJ25_indexOfChar 10 = .ok (.if_icmp .ge 21, 3) := dk_162 0 21 (dk_at dksJ25_indexOfChar_0 10 rfl rfl)
theorem dJ25_indexOfChar_13 : decode cJ25_indexOfChar 13 = .ok (.aload_n 0, 1) := dk_42 (dk_at dksJ25_indexOfChar_0 13 rfl rfl)
theorem dJ25_indexOfChar_14 : decode cJ25_indexOfChar 14 = .ok (.iload 5, 2) := dk_21 5 (dk_at dksJ25_indexOfChar_0 14 rfl rfl)
theorem dJ25_indexOfChar_16 : decode cJ25_indexOfChar 16 = .ok (.baload, 1) := dk_51 (dk_at dksJ25_indexOfChar_0 16 rfl rfl)
theorem dJ25_indexOfChar_17 : decode cJ25_indexOfChar 17 = .ok (.iload 4, 2) := dk_21 4 (dk_at dksJ25_indexOfChar_0 17 rfl rfl)
theorem dJ25_indexOfChar_19 : decode cJ25_indexOfChar 19 = .ok (.if_icmp .ne 6, 3) := dk_160 0 6 (dk_at dksJ25_indexOfChar_0 19 rfl rfl)
theorem dJ25_indexOfChar_22 : decode cJ25_indexOfChar 22 = .ok (.iload 5, 2) := dk_21 5 (dk_at dksJ25_indexOfChar_0 22 rfl rfl)
theorem dJ25_indexOfChar_24 : decode cJ25_indexOfChar 24 = .ok (.ireturn, 1) := dk_172 (dk_at dksJ25_indexOfChar_1 0 rfl rfl)
theorem dJ25_indexOfChar_25 : decode cJ25_indexOfChar 25 = .ok (.iinc 5 1, 3) := dk_132 5 1 (dk_at dksJ25_indexOfChar_1 1 rfl rfl)
theorem dJ25_indexOfChar_28 : decode cJ25_indexOfChar 28 = .ok (.goto (-21), 3) := dk_167 255 235 (dk_at dksJ25_indexOfChar_1 4 rfl rfl)
theorem dJ25_indexOfChar_31 : decode cJ25_indexOfChar 31 = .ok (.iconst (-1), 1) := dk_2 (dk_at dksJ25_indexOfChar_1 7 rfl rfl)
theorem dJ25_indexOfChar_32 : decode cJ25_indexOfChar 32 = .ok (.ireturn, 1) := dk_172 (dk_at dksJ25_indexOfChar_1 8 rfl rfl)
abbrev cJ25_newString : ByteArray := prog_28_method_47_code
def yJ25_newString : MethodName := ⟨RJ25, "newString", "([BII)Ljava/lang/String;"⟩
def dkwJ25_newString_0 : List UInt8 := [28, 154, 0, 6, 18, 151, 176, 187, 0, 1, 89, 42, 27, 27, 28, 96, 184, 0, 232, 3, 183, 0, 112, 176]
abbrev dktJ25_newString_0 : List UInt8 := dkwJ25_newString_0 ++ []
theorem dksJ25_newString_0 : cJ25_newString.data.toList.drop 0 = dktJ25_newString_0 := by decide +kernel
theorem dJ25_newString_0 : decode cJ25_newString 0 = .ok (.iload_n 2, 1) := dk_28 (dk_at dksJ25_newString_0 0 rfl rfl)
theorem dJ25_newString_1 : decode cJ25_newString 1 = .ok (.ifCond .ne 6, 3) := dk_154 0 6 (dk_at dksJ25_newString_0 1 rfl rfl)
theorem dJ25_newString_4 : decode cJ25_newString 4 = .ok (.ldc 151, 2) := dk_18 151 (dk_at dksJ25_newString_0 4 rfl rfl)
theorem dJ25_newString_6 : decode cJ25_newString 6 = .ok (.areturn, 1) := dk_176 (dk_at dksJ25_newString_0 6 rfl rfl)
theorem dJ25_newString_7 : decode cJ25_newString 7 = .ok (.new 1, 3) := dk_187 0 1 (dk_at dksJ25_newString_0 7 rfl rfl)
theorem dJ25_newString_10 : decode cJ25_newString 10 = .ok (.dup, 1) := dk_89 (dk_at dksJ25_newString_0 10 rfl rfl)
theorem dJ25_newString_11 : decode cJ25_newString 11 = .ok (.aload_n 0, 1) := dk_42 (dk_at dksJ25_newString_0 11 rfl rfl)
theorem dJ25_newString_12 : decode cJ25_newString 12 = .ok (.iload_n 1, 1) := dk_27 (dk_at dksJ25_newString_0 12 rfl rfl)
theorem dJ25_newString_13 : decode cJ25_newString 13 = .ok (.iload_n 1, 1) := dk_27 (dk_at dksJ25_newString_0 13 rfl rfl)
theorem dJ25_newString_14 : decode cJ25_newString 14 = .ok (.iload_n 2, 1) := dk_28 (dk_at dksJ25_newString_0 14 rfl rfl)
theorem dJ25_newString_15 : decode cJ25_newString 15 = .ok (.iadd, 1) := dk_96 (dk_at dksJ25_newString_0 15 rfl rfl)
theorem dJ25_newString_16 : decode cJ25_newString 16 = .ok (.invokestatic 232, 3) := dk_184 0 232 (dk_at dksJ25_newString_0 16 rfl rfl)
theorem dJ25_newString_19 : decode cJ25_newString 19 = .ok (.iconst 0, 1) := dk_3 (dk_at dksJ25_newString_0 19 rfl rfl)
theorem dJ25_newString_20 : decode cJ25_newString 20 = .ok (.invokespecial 112, 3) := dk_183 0 112 (dk_at dksJ25_newString_0 20 rfl rfl)
theorem dJ25_newString_23 : decode cJ25_newString 23 = .ok (.areturn, 1) := dk_176 (dk_at dksJ25_newString_0 23 rfl rfl)
abbrev cJ25_charAt : ByteArray := prog_28_method_2_code
def yJ25_charAt : MethodName := ⟨RJ25, "charAt", "([BI)C"⟩
def dkwJ25_charAt_0 : List UInt8 := [27, 42, 190, 184, 0, 9, 42, 27, 51, 17, 0, 255, 126, 146, 172]
abbrev dktJ25_charAt_0 : List UInt8 := dkwJ25_charAt_0 ++ []
theorem dksJ25_charAt_0 : cJ25_charAt.data.toList.drop 0 = dktJ25_charAt_0 := by decide +kernel
theorem dJ25_charAt_0 : decode cJ25_charAt 0 = .ok (.iload_n 1, 1) := dk_27 (dk_at dksJ25_charAt_0 0 rfl rfl)
theorem dJ25_charAt_1 : decode cJ25_charAt 1 = .ok (.aload_n 0, 1) := dk_42 (dk_at dksJ25_charAt_0 1 rfl rfl)
theorem dJ25_charAt_2 : decode cJ25_charAt 2 = .ok (.arraylength, 1) := dk_190 (dk_at dksJ25_charAt_0 2 rfl rfl)
theorem dJ25_charAt_3 : decode cJ25_charAt 3 = .ok (.invokestatic 9, 3) := dk_184 0 9 (dk_at dksJ25_charAt_0 3 rfl rfl)
theorem dJ25_charAt_6 : decode cJ25_charAt 6 = .ok (.aload_n 0, 1) := dk_42 (dk_at dksJ25_charAt_0 6 rfl rfl)
theorem dJ25_charAt_7 : decode cJ25_charAt 7 = .ok (.iload_n 1, 1) := dk_27 (dk_at dksJ25_charAt_0 7 rfl rfl)
theorem dJ25_charAt_8 : decode cJ25_charAt 8 = .ok (.baload, 1) := dk_51 (dk_at dksJ25_charAt_0 8 rfl rfl)
theorem dJ25_charAt_9 : decode cJ25_charAt 9 = .ok (.sipush 255, 3) := dk_17 0 255 (dk_at dksJ25_charAt_0 9 rfl rfl)
theorem dJ25_charAt_12 : decode cJ25_charAt 12 = .ok (.iand, 1) := dk_126 (dk_at dksJ25_charAt_0 12 rfl rfl)
theorem dJ25_charAt_13 : decode cJ25_charAt 13 = .ok (.i2c, 1) := dk_146 (dk_at dksJ25_charAt_0 13 rfl rfl)
theorem dJ25_charAt_14 : decode cJ25_charAt 14 = .ok (.ireturn, 1) := dk_172 (dk_at dksJ25_charAt_0 14 rfl rfl)
abbrev cJ25_equals : ByteArray := prog_28_method_13_code
def yJ25_equals : MethodName := ⟨RJ25, "equals", "([B[B)Z"⟩
def dkwJ25_equals_1 : List UInt8 := [3, 172, 132, 2, 1, 167, 255, 236, 4, 172, 3, 172]
abbrev dktJ25_equals_1 : List UInt8 := dkwJ25_equals_1 ++ []
def dkwJ25_equals_0 : List UInt8 := [42, 190, 43, 190, 160, 0, 30, 3, 61, 28, 42, 190, 162, 0, 20, 42, 28, 51, 43, 28, 51, 159, 0, 5]
abbrev dktJ25_equals_0 : List UInt8 := dkwJ25_equals_0 ++ dktJ25_equals_1
theorem dksJ25_equals_0 : cJ25_equals.data.toList.drop 0 = dktJ25_equals_0 := by decide +kernel
theorem dksJ25_equals_1 : cJ25_equals.data.toList.drop 24 = dktJ25_equals_1 := dk_seg dksJ25_equals_0 24 rfl rfl
theorem dJ25_equals_0 : decode cJ25_equals 0 = .ok (.aload_n 0, 1) := dk_42 (dk_at dksJ25_equals_0 0 rfl rfl)
theorem dJ25_equals_1 : decode cJ25_equals 1 = .ok (.arraylength, 1) := dk_190 (dk_at dksJ25_equals_0 1 rfl rfl)
theorem dJ25_equals_2 : decode cJ25_equals 2 = .ok (.aload_n 1, 1) := dk_43 (dk_at dksJ25_equals_0 2 rfl rfl)
theorem dJ25_equals_3 : decode cJ25_equals 3 = .ok (.arraylength, 1) := dk_190 (dk_at dksJ25_equals_0 3 rfl rfl)
theorem dJ25_equals_4 : decode cJ25_equals 4 = .ok (.if_icmp .ne 30, 3) := dk_160 0 30 (dk_at dksJ25_equals_0 4 rfl rfl)
theorem dJ25_equals_7 : decode cJ25_equals 7 = .ok (.iconst 0, 1) := dk_3 (dk_at dksJ25_equals_0 7 rfl rfl)
theorem dJ25_equals_8 : decode cJ25_equals 8 = .ok (.istore_n 2, 1) := dk_61 (dk_at dksJ25_equals_0 8 rfl rfl)
theorem dJ25_equals_9 : decode cJ25_equals 9 = .ok (.iload_n 2, 1) := dk_28 (dk_at dksJ25_equals_0 9 rfl rfl)
theorem dJ25_equals_10 : decode cJ25_equals 10 = .ok (.aload_n 0, 1) := dk_42 (dk_at dksJ25_equals_0 10 rfl rfl)
theorem dJ25_equals_11 : decode cJ25_equals 11 = .ok (.arraylength, 1) := dk_190 (dk_at dksJ25_equals_0 11 rfl rfl)
theorem dJ25_equals_12 : decode cJ25_equals 12 = .ok (.if_icmp .ge 20, 3) := dk_162 0 20 (dk_at dksJ25_equals_0 12 rfl rfl)
theorem dJ25_equals_15 : decode cJ25_equals 15 = .ok (.aload_n 0, 1) := dk_42 (dk_at dksJ25_equals_0 15 rfl rfl)
theorem dJ25_equals_16 : decode cJ25_equals 16 = .ok (.iload_n 2, 1) := dk_28 (dk_at dksJ25_equals_0 16 rfl rfl)
theorem dJ25_equals_17 : decode cJ25_equals 17 = .ok (.baload, 1) := dk_51 (dk_at dksJ25_equals_0 17 rfl rfl)
theorem dJ25_equals_18 : decode cJ25_equals 18 = .ok (.aload_n 1, 1) := dk_43 (dk_at dksJ25_equals_0 18 rfl rfl)
theorem dJ25_equals_19 : decode cJ25_equals 19 = .ok (.iload_n 2, 1) := dk_28 (dk_at dksJ25_equals_0 19 rfl rfl)
theorem dJ25_equals_20 : decode cJ25_equals 20 = .ok (.baload, 1) := dk_51 (dk_at dksJ25_equals_0 20 rfl rfl)
theorem dJ25_equals_21 : decode cJ25_equals 21 = .ok (.if_icmp .eq 5, 3) := dk_159 0 5 (dk_at dksJ25_equals_0 21 rfl rfl)
theorem dJ25_equals_24 : decode cJ25_equals 24 = .ok (.iconst 0, 1) := dk_3 (dk_at dksJ25_equals_1 0 rfl rfl)
theorem dJ25_equals_25 : decode cJ25_equals 25 = .ok (.ireturn, 1) := dk_172 (dk_at dksJ25_equals_1 1 rfl rfl)
theorem dJ25_equals_26 : decode cJ25_equals 26 = .ok (.iinc 2 1, 3) := dk_132 2 1 (dk_at dksJ25_equals_1 2 rfl rfl)
theorem dJ25_equals_29 : decode cJ25_equals 29 = .ok (.goto (-20), 3) := dk_167 255 236 (dk_at dksJ25_equals_1 5 rfl rfl)
theorem dJ25_equals_32 : decode cJ25_equals 32 = .ok (.iconst 1, 1) := dk_4 (dk_at dksJ25_equals_1 8 rfl rfl)
theorem dJ25_equals_33 : decode cJ25_equals 33 = .ok (.ireturn, 1) := dk_172 (dk_at dksJ25_equals_1 9 rfl rfl)
theorem dJ25_equals_34 : decode cJ25_equals 34 = .ok (.iconst 0, 1) := dk_3 (dk_at dksJ25_equals_1 10 rfl rfl)
theorem dJ25_equals_35 : decode cJ25_equals 35 = .ok (.ireturn, 1) := dk_172 (dk_at dksJ25_equals_1 11 rfl rfl)
abbrev cJ25_hashCode : ByteArray := prog_28_method_21_code
def yJ25_hashCode : MethodName := ⟨RJ25, "hashCode", "([B)I"⟩
def dkwJ25_hashCode_2 : List UInt8 := [3, 167, 0, 22, 42, 3, 51, 17, 0, 255, 126, 167, 0, 12, 42, 3, 42, 190, 3, 7, 184, 0, 84, 172]
abbrev dktJ25_hashCode_2 : List UInt8 := dkwJ25_hashCode_2 ++ []
def dkwJ25_hashCode_1 : List UInt8 := [171, 0, 0, 0, 0, 40, 0, 0, 0, 2, 0, 0, 0, 0, 0, 0, 0, 26, 0, 0, 0, 1, 0, 0, 0, 30]
abbrev dktJ25_hashCode_1 : List UInt8 := dkwJ25_hashCode_1 ++ dktJ25_hashCode_2
def dkwJ25_hashCode_0 : List UInt8 := [42, 190]
abbrev dktJ25_hashCode_0 : List UInt8 := dkwJ25_hashCode_0 ++ dktJ25_hashCode_1
theorem dksJ25_hashCode_0 : cJ25_hashCode.data.toList.drop 0 = dktJ25_hashCode_0 := by decide +kernel
theorem dksJ25_hashCode_1 : cJ25_hashCode.data.toList.drop 2 = dktJ25_hashCode_1 := dk_seg dksJ25_hashCode_0 2 rfl rfl
theorem dksJ25_hashCode_2 : cJ25_hashCode.data.toList.drop 28 = dktJ25_hashCode_2 := dk_seg dksJ25_hashCode_1 26 rfl rfl
theorem dJ25_hashCode_0 : decode cJ25_hashCode 0 = .ok (.aload_n 0, 1) := dk_42 (dk_at dksJ25_hashCode_0 0 rfl rfl)
theorem dJ25_hashCode_1 : decode cJ25_hashCode 1 = .ok (.arraylength, 1) := dk_190 (dk_at dksJ25_hashCode_0 1 rfl rfl)
theorem dJ25_hashCode_2 : decode cJ25_hashCode 2 = .ok (.lookupswitch 40 #[(0, 26), (1, 30)], 26) := by decide +kernel
theorem dJ25_hashCode_28 : decode cJ25_hashCode 28 = .ok (.iconst 0, 1) := dk_3 (dk_at dksJ25_hashCode_2 0 rfl rfl)
theorem dJ25_hashCode_29 : decode cJ25_hashCode 29 = .ok (.goto 22, 3) := dk_167 0 22 (dk_at dksJ25_hashCode_2 1 rfl rfl)
theorem dJ25_hashCode_32 : decode cJ25_hashCode 32 = .ok (.aload_n 0, 1) := dk_42 (dk_at dksJ25_hashCode_2 4 rfl rfl)
theorem dJ25_hashCode_33 : decode cJ25_hashCode 33 = .ok (.iconst 0, 1) := dk_3 (dk_at dksJ25_hashCode_2 5 rfl rfl)
theorem dJ25_hashCode_34 : decode cJ25_hashCode 34 = .ok (.baload, 1) := dk_51 (dk_at dksJ25_hashCode_2 6 rfl rfl)
theorem dJ25_hashCode_35 : decode cJ25_hashCode 35 = .ok (.sipush 255, 3) := dk_17 0 255 (dk_at dksJ25_hashCode_2 7 rfl rfl)
theorem dJ25_hashCode_38 : decode cJ25_hashCode 38 = .ok (.iand, 1) := dk_126 (dk_at dksJ25_hashCode_2 10 rfl rfl)
theorem dJ25_hashCode_39 : decode cJ25_hashCode 39 = .ok (.goto 12, 3) := dk_167 0 12 (dk_at dksJ25_hashCode_2 11 rfl rfl)
theorem dJ25_hashCode_42 : decode cJ25_hashCode 42 = .ok (.aload_n 0, 1) := dk_42 (dk_at dksJ25_hashCode_2 14 rfl rfl)
theorem dJ25_hashCode_43 : decode cJ25_hashCode 43 = .ok (.iconst 0, 1) := dk_3 (dk_at dksJ25_hashCode_2 15 rfl rfl)
theorem dJ25_hashCode_44 : decode cJ25_hashCode 44 = .ok (.aload_n 0, 1) := dk_42 (dk_at dksJ25_hashCode_2 16 rfl rfl)
theorem dJ25_hashCode_45 : decode cJ25_hashCode 45 = .ok (.arraylength, 1) := dk_190 (dk_at dksJ25_hashCode_2 17 rfl rfl)
theorem dJ25_hashCode_46 : decode cJ25_hashCode 46 = .ok (.iconst 0, 1) := dk_3 (dk_at dksJ25_hashCode_2 18 rfl rfl)
theorem dJ25_hashCode_47 : decode cJ25_hashCode 47 = .ok (.iconst 4, 1) := dk_7 (dk_at dksJ25_hashCode_2 19 rfl rfl)
theorem dJ25_hashCode_48 : decode cJ25_hashCode 48 = .ok (.invokestatic 84, 3) := dk_184 0 84 (dk_at dksJ25_hashCode_2 20 rfl rfl)
theorem dJ25_hashCode_51 : decode cJ25_hashCode 51 = .ok (.ireturn, 1) := dk_172 (dk_at dksJ25_hashCode_2 23 rfl rfl)
theorem q67 : (Jvm.Cond.initialized "java/lang/StringLatin1") ∈ lw_all := lw_g (lw_at lw_m1 28 rfl) rfl
theorem q654 : (Jvm.Cond.static ({ cls := "java/lang/StringLatin1", name := "inflate", desc := "([BI[BII)V" } : Jvm.MethodName)) ∈ lw_all := lw_g (lw_at lw_m3 135 rfl) rfl
theorem q655 : (Jvm.Cond.code ({ cls := "java/lang/StringLatin1", name := "inflate", desc := "([BI[BII)V" } : Jvm.MethodName) prog_28_method_50_code (5 : Nat) (Option.none : Option Jvm.ClassFile.FieldType)) ∈ lw_all := lw_g (lw_at lw_m3 136 rfl) rfl
theorem q656 : (Jvm.Cond.methodLink "java/lang/StringLatin1" (240 : Nat) ({ cls := "java/lang/StringUTF16", name := "inflate", desc := "([BI[BII)V" } : Jvm.MethodName)) ∈ lw_all := lw_g (lw_at lw_m3 137 rfl) rfl
theorem q991 : (Jvm.Cond.static ({ cls := "java/lang/StringLatin1", name := "canEncode", desc := "(C)Z" } : Jvm.MethodName)) ∈ lw_all := lw_g (lw_at lw_m4 232 rfl) rfl
theorem q992 : (Jvm.Cond.code ({ cls := "java/lang/StringLatin1", name := "canEncode", desc := "(C)Z" } : Jvm.MethodName) prog_28_method_3_code (1 : Nat) (Option.some Jvm.ClassFile.FieldType.boolean)) ∈ lw_all := lw_g (lw_at lw_m4 233 rfl) rfl
theorem q1046 : (Jvm.Cond.static ({ cls := "java/lang/StringLatin1", name := "indexOf", desc := "([BIII)I" } : Jvm.MethodName)) ∈ lw_all := lw_g (lw_at lw_m5 47 rfl) rfl
theorem q1047 : (Jvm.Cond.code ({ cls := "java/lang/StringLatin1", name := "indexOf", desc := "([BIII)I" } : Jvm.MethodName) prog_28_method_22_code (4 : Nat) (Option.some Jvm.ClassFile.FieldType.int)) ∈ lw_all := lw_g (lw_at lw_m5 48 rfl) rfl
theorem q1048 : (Jvm.Cond.methodLink "java/lang/StringLatin1" (88 : Nat) ({ cls := "java/lang/StringLatin1", name := "canEncode", desc := "(I)Z" } : Jvm.MethodName)) ∈ lw_all := lw_g (lw_at lw_m5 49 rfl) rfl
theorem q1049 : (Jvm.Cond.static ({ cls := "java/lang/StringLatin1", name := "canEncode", desc := "(I)Z" } : Jvm.MethodName)) ∈ lw_all := lw_g (lw_at lw_m5 50 rfl) rfl
theorem q1050 : (Jvm.Cond.code ({ cls := "java/lang/StringLatin1", name := "canEncode", desc := "(I)Z" } : Jvm.MethodName) prog_28_method_4_code (1 : Nat) (Option.some Jvm.ClassFile.FieldType.boolean)) ∈ lw_all := lw_g (lw_at lw_m5 51 rfl) rfl
theorem q1051 : (Jvm.Cond.methodLink "java/lang/StringLatin1" (92 : Nat) ({ cls := "java/lang/Math", name := "max", desc := "(II)I" } : Jvm.MethodName)) ∈ lw_all := lw_g (lw_at lw_m5 52 rfl) rfl
theorem q1052 : (Jvm.Cond.methodLink "java/lang/StringLatin1" (38 : Nat) ({ cls := "java/lang/Math", name := "min", desc := "(II)I" } : Jvm.MethodName)) ∈ lw_all := lw_g (lw_at lw_m5 53 rfl) rfl
theorem q1053 : (Jvm.Cond.methodLink "java/lang/StringLatin1" (95 : Nat) ({ cls := "java/lang/StringLatin1", name := "indexOfChar", desc := "([BIII)I" } : Jvm.MethodName)) ∈ lw_all := lw_g (lw_at lw_m5 54 rfl) rfl
theorem q1054 : (Jvm.Cond.static ({ cls := "java/lang/StringLatin1", name := "indexOfChar", desc := "([BIII)I" } : Jvm.MethodName)) ∈ lw_all := lw_g (lw_at lw_m5 55 rfl) rfl
theorem q1055 : (Jvm.Cond.code ({ cls := "java/lang/StringLatin1", name := "indexOfChar", desc := "([BIII)I" } : Jvm.MethodName) prog_28_method_23_code (6 : Nat) (Option.some Jvm.ClassFile.FieldType.int)) ∈ lw_all := lw_g (lw_at lw_m5 56 rfl) rfl
theorem q1092 : (Jvm.Cond.static ({ cls := "java/lang/StringLatin1", name := "newString", desc := "([BII)Ljava/lang/String;" } : Jvm.MethodName)) ∈ lw_all := lw_g (lw_at lw_m5 93 rfl) rfl
theorem q1093 : (Jvm.Cond.code ({ cls := "java/lang/StringLatin1", name := "newString", desc := "([BII)Ljava/lang/String;" } : Jvm.MethodName) prog_28_method_47_code (3 : Nat) (Option.some (Jvm.ClassFile.FieldType.object "java/lang/String"))) ∈ lw_all := lw_g (lw_at lw_m5 94 rfl) rfl
theorem q1094 : (Jvm.Cond.stringRef "java/lang/StringLatin1" (151 : Nat) "") ∈ lw_tbl := lw_at lw_m5 95 rfl
theorem q1095 : (Jvm.Cond.classLink "java/lang/StringLatin1" (1 : Nat) "java/lang/String") ∈ lw_all := lw_g (lw_at lw_m5 96 rfl) rfl
theorem q1096 : (Jvm.Cond.methodLink "java/lang/StringLatin1" (232 : Nat) ({ cls := "java/util/Arrays", name := "copyOfRange", desc := "([BII)[B" } : Jvm.MethodName)) ∈ lw_all := lw_g (lw_at lw_m5 97 rfl) rfl
theorem q1097 : (Jvm.Cond.methodLink "java/lang/StringLatin1" (112 : Nat) ({ cls := "java/lang/String", name := "<init>", desc := "([BB)V" } : Jvm.MethodName)) ∈ lw_all := lw_g (lw_at lw_m5 98 rfl) rfl
theorem q1149 : (Jvm.Cond.static ({ cls := "java/lang/StringLatin1", name := "charAt", desc := "([BI)C" } : Jvm.MethodName)) ∈ lw_all := lw_g (lw_at lw_m5 150 rfl) rfl
theorem q1150 : (Jvm.Cond.code ({ cls := "java/lang/StringLatin1", name := "charAt", desc := "([BI)C" } : Jvm.MethodName) prog_28_method_2_code (2 : Nat) (Option.some Jvm.ClassFile.FieldType.char)) ∈ lw_all := lw_g (lw_at lw_m5 151 rfl) rfl
theorem q1151 : (Jvm.Cond.methodLink "java/lang/StringLatin1" (9 : Nat) ({ cls := "java/lang/String", name := "checkIndex", desc := "(II)V" } : Jvm.MethodName)) ∈ lw_all := lw_g (lw_at lw_m5 152 rfl) rfl
theorem q1446 : (Jvm.Cond.static ({ cls := "java/lang/StringLatin1", name := "equals", desc := "([B[B)Z" } : Jvm.MethodName)) ∈ lw_all := lw_g (lw_at lw_m6 207 rfl) rfl
theorem q1447 : (Jvm.Cond.code ({ cls := "java/lang/StringLatin1", name := "equals", desc := "([B[B)Z" } : Jvm.MethodName) prog_28_method_13_code (3 : Nat) (Option.some Jvm.ClassFile.FieldType.boolean)) ∈ lw_all := lw_g (lw_at lw_m6 208 rfl) rfl
theorem q1614 : (Jvm.Cond.static ({ cls := "java/lang/StringLatin1", name := "hashCode", desc := "([B)I" } : Jvm.MethodName)) ∈ lw_all := lw_g (lw_at lw_m7 135 rfl) rfl
theorem q1615 : (Jvm.Cond.code ({ cls := "java/lang/StringLatin1", name := "hashCode", desc := "([B)I" } : Jvm.MethodName) prog_28_method_21_code (1 : Nat) (Option.some Jvm.ClassFile.FieldType.int)) ∈ lw_all := lw_g (lw_at lw_m7 136 rfl) rfl
theorem q1616 : (Jvm.Cond.methodLink "java/lang/StringLatin1" (84 : Nat) ({ cls := "jdk/internal/util/ArraysSupport", name := "vectorizedHashCode", desc := "(Ljava/lang/Object;IIII)I" } : Jvm.MethodName)) ∈ lw_all := lw_g (lw_at lw_m7 137 rfl) rfl
/-! java/lang/Integer -/
set_option maxRecDepth 100000
def RJ26 : String := "java/lang/Integer"
abbrev cJ26_stringSize : ByteArray := prog_19_method_13_code
def yJ26_stringSize : MethodName := ⟨RJ26, "stringSize", "(I)I"⟩
def dkwJ26_stringSize_1 : List UInt8 := [164, 0, 7, 29, 27, 96, 172, 16, 10, 28, 104, 61, 132, 3, 1, 167, 255, 233, 16, 10, 27, 96, 172]
abbrev dktJ26_stringSize_1 : List UInt8 := dkwJ26_stringSize_1 ++ []
def dkwJ26_stringSize_0 : List UInt8 := [4, 60, 26, 155, 0, 8, 3, 60, 26, 116, 59, 16, 246, 61, 4, 62, 29, 16, 10, 162, 0, 23, 26, 28]
abbrev dktJ26_stringSize_0 : List UInt8 := dkwJ26_stringSize_0 ++ dktJ26_stringSize_1
theorem dksJ26_stringSize_0 : cJ26_stringSize.data.toList.drop 0 = dktJ26_stringSize_0 := by decide +kernel
theorem dksJ26_stringSize_1 : cJ26_stringSize.data.toList.drop 24 = dktJ26_stringSize_1 := dk_seg dksJ26_stringSize_0 24 rfl rfl
theorem dJ26_stringSize_0 : decode cJ26_stringSize 0 = .ok (.iconst 1, 1) := dk_4 (dk_at dksJ26_stringSize_0 0 rfl rfl)
theorem dJ26_stringSize_1 : decode cJ26_stringSize 1 = .ok (.istore_n 1, 1) := dk_60 (dk_at dksJ26_stringSize_0 1 rfl rfl)
theorem dJ26_stringSize_2 : decode cJ26_stringSize 2 = .ok (.iload_n 0, 1) := dk_26 (dk_at dksJ26_stringSize_0 2 rfl rfl)
theorem dJ26_stringSize_3 : decode cJ26_stringSize 3 = .ok (.ifCond .lt 8, 3) := dk_155 0 8 (dk_at dksJ26_stringSize_0 3 rfl rfl)
theorem dJ26_stringSize_6 : decode cJ26_stringSize 6 = .ok (.iconst 0, 1) := dk_3 (dk_at dksJ26_stringSize_0 6 rfl rfl)
theorem dJ26_stringSize_7 : decode cJ26_stringSize 7 = .ok (.istore_n 1, 1) := dk_60 (dk_at dksJ26_stringSize_0 7 rfl rfl)
theorem dJ26_stringSize_8 : decode cJ26_stringSize 8 = .ok (.iload_n 0, 1) := dk_26 (dk_at dksJ26_stringSize_0 8 rfl rfl)
theorem dJ26_stringSize_9 : decode cJ26_stringSize 9 = .ok (.ineg, 1) := dk_116 (dk_at dksJ26_stringSize_0 9 rfl rfl)
theorem dJ26_stringSize_10 : decode cJ26_stringSize 10 = .ok (.istore_n 0, 1) := dk_59 (dk_at dksJ26_stringSize_0 10 rfl rfl)
theorem dJ26_stringSize_11 : decode cJ26_stringSize 11 = .ok (.bipush (-10), 2) := dk_16 246 (dk_at dksJ26_stringSize_0 11 rfl rfl)
theorem dJ26_stringSize_13 : decode cJ26_stringSize 13 = .ok (.istore_n 2, 1) := dk_61 (dk_at dksJ26_stringSize_0 13 rfl rfl)
theorem dJ26_stringSize_14 : decode cJ26_stringSize 14 = .ok (.iconst 1, 1) := dk_4 (dk_at dksJ26_stringSize_0 14 rfl rfl)
theorem dJ26_stringSize_15 : decode cJ26_stringSize 15 = .ok (.istore_n 3, 1) := dk_62 (dk_at dksJ26_stringSize_0 15 rfl rfl)
theorem dJ26_stringSize_16 : decode cJ26_stringSize 16 = .ok (.iload_n 3, 1) := dk_29 (dk_at dksJ26_stringSize_0 16 rfl rfl)
theorem dJ26_stringSize_17 : decode cJ26_stringSize 17 = .ok (.bipush 10, 2) := dk_16 10 (dk_at dksJ26_stringSize_0 17 rfl rfl)
theorem dJ26_stringSize_19 : decode cJ26_stringSize 19 = .ok (.if_icmp .ge 23, 3) := dk_162 0 23 (dk_at dksJ26_stringSize_0 19 rfl rfl)
theorem dJ26_stringSize_22 : decode cJ26_stringSize 22 = .ok (.iload_n 0, 1) := dk_26 (dk_at dksJ26_stringSize_0 22 rfl rfl)
theorem dJ26_stringSize_23 : decode cJ26_stringSize 23 = .ok (.iload_n 2, 1) := dk_28 (dk_at dksJ26_stringSize_0 23 rfl rfl)
theorem dJ26_stringSize_24 : decode cJ26_stringSize 24 = .ok (.if_icmp .le 7, 3) := dk_164 0 7 (dk_at dksJ26_stringSize_1 0 rfl rfl)
theorem dJ26_stringSize_27 : decode cJ26_stringSize 27 = .ok (.iload_n 3, 1) := dk_29 (dk_at dksJ26_stringSize_1 3 rfl rfl)
theorem dJ26_stringSize_28 : decode cJ26_stringSize 28 = .ok (.iload_n 1, 1) := dk_27 (dk_at dksJ26_stringSize_1 4 rfl rfl)
theorem dJ26_stringSize_29 : decode cJ26_stringSize 29 = .ok (.iadd, 1) := dk_96 (dk_at dksJ26_stringSize_1 5 rfl rfl)
theorem dJ26_stringSize_30 : decode cJ26_stringSize 30 = .ok (.ireturn, 1) := dk_172 (dk_at dksJ26_stringSize_1 6 rfl rfl)
theorem dJ26_stringSize_31 : decode cJ26_stringSize 31 = .ok (.bipush 10, 2) := dk_16 10 (dk_at dksJ26_stringSize_1 7 rfl rfl)
theorem dJ26_stringSize_33 : decode cJ26_stringSize 33 = .ok (.iload_n 2, 1) := dk_28 (dk_at dksJ26_stringSize_1 9 rfl rfl)
theorem dJ26_stringSize_34 : decode cJ26_stringSize 34 = .ok (.imul, 1) := dk_104 (dk_at dksJ26_stringSize_1 10 rfl rfl)
theorem dJ26_stringSize_35 : decode cJ26_stringSize 35 = .ok (.istore_n 2, 1) := dk_61 (dk_at dksJ26_stringSize_1 11 rfl rfl)
theorem dJ26_stringSize_36 : decode cJ26_stringSize 36 = .ok (.iinc 3 1, 3) := dk_132 3 1 (dk_at dksJ26_stringSize_1 12 rfl rfl)
theorem dJ26_stringSize_39 : decode cJ26_stringSize 39 = .ok (.goto (-23), 3) := dk_167 255 233 (dk_at dksJ26_stringSize_1 15 rfl rfl)
theorem dJ26_stringSize_42 : decode cJ26_stringSize 42 = .ok (.bipush 10, 2) := dk_16 10 (dk_at dksJ26_stringSize_1 18 rfl rfl)
theorem dJ26_stringSize_44 : decode cJ26_stringSize 44 = .ok (.iload_n 1, 1) := dk_27 (dk_at dksJ26_stringSize_1 20 rfl rfl)
theorem dJ26_stringSize_45 : decode cJ26_stringSize 45 = .ok (.iadd, 1) := dk_96 (dk_at dksJ26_stringSize_1 21 rfl rfl)
theorem dJ26_stringSize_46 : decode cJ26_stringSize 46 = .ok (.ireturn, 1) := dk_172 (dk_at dksJ26_stringSize_1 22 rfl rfl)
abbrev cJ26_getChars : ByteArray := prog_19_method_12_code
def yJ26_getChars : MethodName := ⟨RJ26, "getChars", "(II[B)I"⟩
def dkwJ26_getChars_5 : List UInt8 := [16, 45, 84, 21, 5, 172]
abbrev dktJ26_getChars_5 : List UInt8 := dkwJ26_getChars_5 ++ []
def dkwJ26_getChars_4 : List UInt8 := [132, 5, 255, 21, 5, 178, 0, 87, 26, 116, 51, 84, 21, 6, 153, 0, 12, 44, 132, 5, 255, 21, 5]
abbrev dktJ26_getChars_4 : List UInt8 := dkwJ26_getChars_4 ++ dktJ26_getChars_5
def dkwJ26_getChars_3 : List UInt8 := [167, 255, 209, 44, 132, 5, 255, 21, 5, 178, 0, 83, 26, 116, 51, 84, 26, 16, 247, 162, 0, 16, 44]
abbrev dktJ26_getChars_3 : List UInt8 := dkwJ26_getChars_3 ++ dktJ26_getChars_4
def dkwJ26_getChars_2 : List UInt8 := [21, 5, 178, 0, 83, 21, 4, 51, 84, 44, 132, 5, 255, 21, 5, 178, 0, 87, 21, 4, 51, 84]
abbrev dktJ26_getChars_2 : List UInt8 := dkwJ26_getChars_2 ++ dktJ26_getChars_3
def dkwJ26_getChars_1 : List UInt8 := [16, 156, 163, 0, 47, 26, 16, 100, 108, 62, 29, 16, 100, 104, 26, 100, 54, 4, 29, 59, 44, 132, 5, 255]
abbrev dktJ26_getChars_1 : List UInt8 := dkwJ26_getChars_1 ++ dktJ26_getChars_2
def dkwJ26_getChars_0 : List UInt8 := [27, 54, 5, 26, 156, 0, 7, 4, 167, 0, 4, 3, 54, 6, 21, 6, 154, 0, 6, 26, 116, 59, 26]
abbrev dktJ26_getChars_0 : List UInt8 := dkwJ26_getChars_0 ++ dktJ26_getChars_1
theorem dksJ26_getChars_0 : cJ26_getChars.data.toList.drop 0 = dktJ26_getChars_0 := by decide +kernel
theorem dksJ26_getChars_1 : cJ26_getChars.data.toList.drop 23 = dktJ26_getChars_1 := dk_seg dksJ26_getChars_0 23 rfl rfl
theorem dksJ26_getChars_2 : cJ26_getChars.data.toList.drop 47 = dktJ26_getChars_2 := dk_seg dksJ26_getChars_1 24 rfl rfl
theorem dksJ26_getChars_3 : cJ26_getChars.data.toList.drop 69 = dktJ26_getChars_3 := dk_seg dksJ26_getChars_2 22 rfl rfl
theorem dksJ26_getChars_4 : cJ26_getChars.data.toList.drop 92 = dktJ26_getChars_4 := dk_seg dksJ26_getChars_3 23 rfl rfl
theorem dksJ26_getChars_5 : cJ26_getChars.data.toList.drop 115 = dktJ26_getChars_5 := dk_seg dksJ26_getChars_4 23 rfl rfl
theorem dJ26_getChars_0 : decode cJ26_getChars 0 = .ok (.iload_n 1, 1) := dk_27 (dk_at dksJ26_getChars_0 0 rfl rfl)
theorem dJ26_getChars_1 : decode cJ26_getChars 1 = .ok (.istore 5, 2) := dk_54 5 (dk_at dksJ26_getChars_0 1 rfl rfl)
theorem dJ26_getChars_3 : decode cJ26_getChars 3 = .ok (.iload_n 0, 1) := dk_26 (dk_at dksJ26_getChars_0 3 rfl rfl)
theorem dJ26_getChars_4 : decode cJ26_getChars 4 = .ok (.ifCond .ge 7, 3) := dk_156 0 7 (dk_at dksJ26_getChars_0 4 rfl rfl)
theorem dJ26_getChars_7 : decode cJ26_getChars 7 = .ok (.iconst 1, 1) := dk_4 (dk_at dksJ26_getChars_0 7 rfl rfl)
theorem dJ26_getChars_8 : decode cJ26_getChars 8 = .ok (.goto 4, 3) := dk_167 0 4 (dk_at dksJ26_getChars_0 8 rfl rfl)
theorem dJ26_getChars_11 : decode cJ26_getChars 11 = .ok (.iconst 0, 1) := dk_3 (dk_at dksJ26_getChars_0 11 rfl rfl)
theorem dJ26_getChars_12 : decode cJ26_getChars 12 = .ok (.istore 6, 2) := dk_54 6 (dk_at dksJ26_getChars_0 12 rfl rfl)
theorem dJ26_getChars_14 : decode cJ26_getChars 14 = .ok (.iload 6, 2) := dk_21 6 (dk_at dksJ26_getChars_0 14 rfl rfl)
theorem dJ26_getChars_16 : decode cJ26_getChars 16 = .ok (.ifCond .ne 6, 3) := dk_154 0 6 (dk_at dksJ26_getChars_0 16 rfl rfl)
theorem dJ26_getChars_19 : decode cJ26_getChars 19 = .ok (.iload_n 0, 1) := dk_26 (dk_at dksJ26_getChars_0 19 rfl rfl)
theorem dJ26_getChars_20 : decode cJ26_getChars 20 = .ok (.ineg, 1) := dk_116 (dk_at dksJ26_getChars_0 20 rfl rfl)
theorem dJ26_getChars_21 : decode cJ26_getChars 21 = .ok (.istore_n 0, 1) := dk_59 (dk_at dksJ26_getChars_0 21 rfl rfl)
theorem dJ26_getChars_22 : decode cJ26_getChars 22 = .ok (.iload_n 0, 1) := dk_26 (dk_at dksJ26_getChars_0 22 rfl rfl)
theorem dJ26_getChars_23 : decode cJ26_getChars 23 = .ok (.bipush (-100), 2) := dk_16 156 (dk_at dksJ26_getChars_1 0 rfl rfl)
theorem dJ26_getChars_25 : decode cJ26_getChars 25 = .ok (.if_icmp .gt 47, 3) := dk_163 0 47 (dk_at dksJ26_getChars_1 2 rfl rfl)
theorem dJ26_getChars_28 : decode cJ26_getChars 28 = .ok (.iload_n 0, 1) := dk_26 (dk_at dksJ26_getChars_1 5 rfl rfl)
theorem dJ26_getChars_29 : decode cJ26_getChars 29 = .ok (.bipush 100, 2) := dk_16 100 (dk_at dksJ26_getChars_1 6 rfl rfl)
theorem dJ26_getChars_31 : decode cJ26_getChars 31 = .ok (.idiv, 1) := dk_108 (dk_at dksJ26_getChars_1 8 rfl rfl)
theorem dJ26_getChars_32 : decode cJ26_getChars 32 = .ok (.istore_n 3, 1) := dk_62 (dk_at dksJ26_getChars_1 9 rfl rfl)
theorem dJ26_getChars_33 : decode cJ26_getChars 33 = .ok (.iload_n 3, 1) := dk_29 (dk_at dksJ26_getChars_1 10 rfl rfl)
theorem dJ26_getChars_34 : decode cJ26_getChars 34 = .ok (.bipush 100, 2) := dk_16 100 (dk_at dksJ26_getChars_1 11 rfl rfl)
theorem dJ26_getChars_36 : decode cJ26_getChars 36 = .ok (.imul, 1) := dk_104 (dk_at dksJ26_getChars_1 13 rfl rfl)
theorem dJ26_getChars_37 : decode cJ26_getChars 37 = .ok (.iload_n 0, 1) := dk_26 (dk_at dksJ26_getChars_1 14 rfl rfl)
theorem dJ26_getChars_38 : decode cJ26_getChars 38 = .ok (.isub, 1) := dk_100 (dk_at dksJ26_getChars_1 15 rfl rfl)
theorem dJ26_getChars_39 : decode cJ26_getChars 39 = .ok (.istore 4, 2) := dk_54 4 (dk_at dksJ26_getChars_1 16 rfl rfl)
theorem dJ26_getChars_41 : decode cJ26_getChars 41 = .ok (.iload_n 3, 1) := dk_29 (dk_at dksJ26_getChars_1 18 rfl rfl)
theorem dJ26_getChars_42 : decode cJ26_getChars 42 = .ok (.istore_n 0, 1) := dk_59 (dk_at dksJ26_getChars_1 19 rfl rfl)
theorem dJ26_getChars_43 : decode cJ26_getChars 43 = .ok (.aload_n 2, 1) := dk_44 (dk_at dksJ26_getChars_1 20 rfl rfl)
theorem dJ26_getChars_44 : decode cJ26_getChars 44 = .ok (.iinc 5 (-1), 3) := dk_132 5 255 (dk_at dksJ26_getChars_1 21 rfl rfl)
theorem dJ26_getChars_47 : decode cJ26_getChars 47 = .ok (.iload 5, 2) := dk_21 5 (dk_at dksJ26_getChars_2 0 rfl rfl)
theorem dJ26_getChars_49 : decode cJ26_getChars 49 = .ok (.getstatic 83, 3) := dk_178 0 83 (dk_at dksJ26_getChars_2 2 rfl rfl)
theorem dJ26_getChars_52 : decode cJ26_getChars 52 = .ok (.iload 4, 2) := dk_21 4 (dk_at dksJ26_getChars_2 5 rfl rfl)
theorem dJ26_getChars_54 : decode cJ26_getChars 54 = .ok (.baload, 1) := dk_51 (dk_at dksJ26_getChars_2 7 rfl rfl)
theorem dJ26_getChars_55 : decode cJ26_getChars 55 = .ok (.bastore, 1) := dk_84 (dk_at dksJ26_getChars_2 8 rfl rfl)
theorem dJ26_getChars_56 : decode cJ26_getChars 56 = .ok (.aload_n 2, 1) := dk_44 (dk_at dksJ26_getChars_2 9 rfl rfl)
theorem dJ26_getChars_57 : decode cJ26_getChars 57 = .ok (.iinc 5 (-1), 3) := dk_132 5 255 (dk_at dksJ26_getChars_2 10 rfl rfl)
theorem dJ26_getChars_60 : decode cJ26_getChars 60 = .ok (.iload 5, 2) := dk_21 5 (dk_at dksJ26_getChars_2 13 rfl rfl)
theorem dJ26_getChars_62 : decode cJ26_getChars 62 = .ok (.getstatic 87, 3) := dk_178 0 87 (dk_at dksJ26_getChars_2 15 rfl rfl)
theorem dJ26_getChars_65 : decode cJ26_getChars 65 = .ok (.iload 4, 2) := dk_21 4 (dk_at dksJ26_getChars_2 18 rfl rfl)
theorem dJ26_getChars_67 : decode cJ26_getChars 67 = .ok (.baload, 1) := dk_51 (dk_at dksJ26_getChars_2 20 rfl rfl)
theorem dJ26_getChars_68 : decode cJ26_getChars 68 = .ok (.bastore, 1) := dk_84 (dk_at dksJ26_getChars_2 21 rfl rfl)
theorem dJ26_getChars_69 : decode cJ26_getChars 69 = .ok (.goto (-47), 3) := dk_167 255 209 (dk_at dksJ26_getChars_3 0 rfl rfl)
theorem dJ26_getChars_72 : decode cJ26_getChars 72 = .ok (.aload_n 2, 1) := dk_44 (dk_at dksJ26_getChars_3 3 rfl rfl)
theorem dJ26_getChars_73 : decode cJ26_getChars 73 = .ok (.iinc 5 (-1), 3) := dk_132 5 255 (dk_at dksJ26_getChars_3 4 rfl rfl)
theorem dJ26_getChars_76 : decode cJ26_getChars 76 = .ok (.iload 5, 2) := dk_21 5 (dk_at dksJ26_getChars_3 7 rfl rfl)
theorem dJ26_getChars_78 : decode cJ26_getChars 78 = .ok (.getstatic 83, 3) := dk_178 0 83 (dk_at dksJ26_getChars_3 9 rfl rfl)
theorem dJ26_getChars_81 : decode cJ26_getChars 81 = .ok (.iload_n 0, 1) := dk_26 (dk_at dksJ26_getChars_3 12 rfl rfl)
theorem dJ26_getChars_82 : decode cJ26_getChars 82 = .ok (.ineg, 1) := dk_116 (dk_at dksJ26_getChars_3 13 rfl rfl)
theorem dJ26_getChars_83 : decode cJ26_getChars 83 = .ok (.baload, 1) := dk_51 (dk_at dksJ26_getChars_3 14 rfl rfl)
theorem dJ26_getChars_84 : decode cJ26_getChars 84 = .ok (.bastore, 1) := dk_84 (dk_at dksJ26_getChars_3 15 rfl rfl)
theorem dJ26_getChars_85 : decode cJ26_getChars 85 = .ok (.iload_n 0, 1) := dk_26 (dk_at dksJ26_getChars_3 16 rfl rfl)
theorem dJ26_getChars_86 : decode cJ26_getChars 86 = .ok (.bipush (-9), 2) := dk_16 247 (dk_at dksJ26_getChars_3 17 rfl rfl)
theorem dJ26_getChars_88 : decode cJ26_getChars 88 = .ok (.if_icmp .ge 16, 3) := dk_162 0 16 (dk_at dksJ26_getChars_3 19 rfl rfl)
theorem dJ26_getChars_91 : decode cJ26_getChars 91 = .ok (.aload_n 2, 1) := dk_44 (dk_at dksJ26_getChars_3 22 rfl rfl)
theorem dJ26_getChars_92 : decode cJ26_getChars 92 = .ok (.iinc 5 (-1), 3) := dk_132 5 255 (dk_at dksJ26_getChars_4 0 rfl rfl)
theorem dJ26_getChars_95 : decode cJ26_getChars 95 = .ok (.iload 5, 2) := dk_21 5 (dk_at dksJ26_getChars_4 3 rfl rfl)
theorem dJ26_getChars_97 : decode cJ26_getChars 97 = .ok (.getstatic 87, 3) := dk_178 0 87 (dk_at dksJ26_getChars_4 5 rfl rfl)
theorem dJ26_getChars_100 : decode cJ26_getChars 100 = .ok (.iload_n 0, 1) := dk_26 (dk_at dksJ26_getChars_4 8 rfl rfl)
theorem dJ26_getChars_101 : decode cJ26_getChars 101 = .ok (.ineg, 1) := dk_116 (dk_at dksJ26_getChars_4 9 rfl rfl)
theorem dJ26_getChars_102 : decode cJ26_getChars 102 = .ok (.baload, 1) := dk_51 (dk_at dksJ26_getChars_4 10 rfl rfl)
theorem dJ26_getChars_103 : decode cJ26_getChars 103 = .ok (.bastore, 1) := dk_84 (dk_at dksJ26_getChars_4 11 rfl rfl)
theorem dJ26_getChars_104 : decode cJ26_getChars 104 = .ok (.iload 6, 2) := dk_21 6 (dk_at dksJ26_getChars_4 12 rfl rfl)
theorem dJ26_getChars_106 : decode cJ26_getChars 106 = .ok (.ifCond .eq 12, 3) := dk_153 0 12 (dk_at dksJ26_getChars_4 14 rfl rfl)
theorem dJ26_getChars_109 : decode cJ26_getChars 109 = .ok (.aload_n 2, 1) := dk_44 (dk_at dksJ26_getChars_4 17 rfl rfl)
theorem dJ26_getChars_110 : decode cJ26_getChars 110 = .ok (.iinc 5 (-1), 3) := dk_132 5 255 (dk_at dksJ26_getChars_4 18 rfl rfl)
theorem dJ26_getChars_113 : decode cJ26_getChars 113 = .ok (.iload 5, 2) := dk_21 5 (dk_at dksJ26_getChars_4 21 rfl rfl)
theorem dJ26_getChars_115 : decode cJ26_getChars 115 = .ok (.bipush 45, 2) := dk_16 45 (dk_at dksJ26_getChars_5 0 rfl rfl)
theorem dJ26_getChars_117 : decode cJ26_getChars 117 = .ok (.bastore, 1) := dk_84 (dk_at dksJ26_getChars_5 2 rfl rfl)
theorem dJ26_getChars_118 : decode cJ26_getChars 118 = .ok (.iload 5, 2) := dk_21 5 (dk_at dksJ26_getChars_5 3 rfl rfl)
theorem dJ26_getChars_120 : decode cJ26_getChars 120 = .ok (.ireturn, 1) := dk_172 (dk_at dksJ26_getChars_5 5 rfl rfl)
abbrev cJ26_bitCount : ByteArray := prog_19_method_49_code
def yJ26_bitCount : MethodName := ⟨RJ26, "bitCount", "(I)I"⟩
def dkwJ26_bitCount_2 : List UInt8 := [26, 16, 63, 126, 172]
abbrev dktJ26_bitCount_2 : List UInt8 := dkwJ26_bitCount_2 ++ []
def dkwJ26_bitCount_1 : List UInt8 := [26, 26, 7, 124, 96, 19, 1, 11, 126, 59, 26, 26, 16, 8, 124, 96, 59, 26, 26, 16, 16, 124, 96, 59]
abbrev dktJ26_bitCount_1 : List UInt8 := dkwJ26_bitCount_1 ++ dktJ26_bitCount_2
def dkwJ26_bitCount_0 : List UInt8 := [26, 26, 4, 124, 19, 1, 9, 126, 100, 59, 26, 19, 1, 10, 126, 26, 5, 124, 19, 1, 10, 126, 96, 59]
abbrev dktJ26_bitCount_0 : List UInt8 := dkwJ26_bitCount_0 ++ dktJ26_bitCount_1
theorem dksJ26_bitCount_0 : cJ26_bitCount.data.toList.drop 0 = dktJ26_bitCount_0 := by decide +kernel
theorem dksJ26_bitCount_1 : cJ26_bitCount.data.toList.drop 24 = dktJ26_bitCount_1 := dk_seg dksJ26_bitCount_0 24 rfl rfl
theorem dksJ26_bitCount_2 : cJ26_bitCount.data.toList.drop 48 = dktJ26_bitCount_2 := dk_seg dksJ26_bitCount_1 24 rfl rfl
theorem dJ26_bitCount_0 : decode cJ26_bitCount 0 = .ok (.iload_n 0, 1) := dk_26 (dk_at dksJ26_bitCount_0 0 rfl rfl)
theorem dJ26_bitCount_1 : decode cJ26_bitCount 1 = .ok (.iload_n 0, 1) := dk_26 (dk_at dksJ26_bitCount_0 1 rfl rfl)
theorem dJ26_bitCount_2 : decode cJ26_bitCount 2 = .ok (.iconst 1, 1) := dk_4 (dk_at dksJ26_bitCount_0 2 rfl rfl)
theorem dJ26_bitCount_3 : decode cJ26_bitCount 3 = .ok (.iushr, 1) := dk_124 (dk_at dksJ26_bitCount_0 3 rfl rfl)
theorem dJ26_bitCount_4 : decode cJ26_bitCount 4 = .ok (.ldc_w 265, 3) := dk_19 1 9 (dk_at dksJ26_bitCount_0 4 rfl rfl)
theorem dJ26_bitCount_7 : decode cJ26_bitCount 7 = .ok (.iand, 1) := dk_126 (dk_at dksJ26_bitCount_0 7 rfl rfl)
theorem dJ26_bitCount_8 : decode cJ26_bitCount 8 = .ok (.isub, 1) := dk_100 (dk_at dksJ26_bitCount_0 8 rfl rfl)
theorem dJ26_bitCount_9 : decode cJ26_bitCount 9 = .ok (.istore_n 0, 1) := dk_59 (dk_at dksJ26_bitCount_0 9 rfl rfl)
theorem dJ26_bitCount_10 : decode cJ26_bitCount 10 = .ok (.iload_n 0, 1) := dk_26 (dk_at dksJ26_bitCount_0 10 rfl rfl)
theorem dJ26_bitCount_11 : decode cJ26_bitCount 11 = .ok (.ldc_w 266, 3) := dk_19 1 10 (dk_at dksJ26_bitCount_0 11 rfl rfl)
theorem dJ26_bitCount_14 : decode cJ26_bitCount 14 = .ok (.iand, 1) := dk_126 (dk_at dksJ26_bitCount_0 14 rfl rfl)
theorem dJ26_bitCount_15 : decode cJ26_bitCount 15 = .ok (.iload_n 0, 1) := dk_26 (dk_at dksJ26_bitCount_0 15 rfl rfl)
theorem dJ26_bitCount_16 : decode cJ26_bitCount 16 = .ok (.iconst 2, 1) := dk_5 (dk_at dksJ26_bitCount_0 16 rfl rfl)
theorem dJ26_bitCount_17 : decode cJ26_bitCount 17 = .ok (.iushr, 1) := dk_124 (dk_at dksJ26_bitCount_0 17 rfl rfl)
theorem dJ26_bitCount_18 : decode cJ26_bitCount 18 = .ok (.ldc_w 266, 3) := dk_19 1 10 (dk_at dksJ26_bitCount_0 18 rfl rfl)
theorem dJ26_bitCount_21 : decode cJ26_bitCount 21 = .ok (.iand, 1) := dk_126 (dk_at dksJ26_bitCount_0 21 rfl rfl)
theorem dJ26_bitCount_22 : decode cJ26_bitCount 22 = .ok (.iadd, 1) := dk_96 (dk_at dksJ26_bitCount_0 22 rfl rfl)
theorem dJ26_bitCount_23 : decode cJ26_bitCount 23 = .ok (.istore_n 0, 1) := dk_59 (dk_at dksJ26_bitCount_0 23 rfl rfl)
theorem dJ26_bitCount_24 : decode cJ26_bitCount 24 = .ok (.iload_n 0, 1) := dk_26 (dk_at dksJ26_bitCount_1 0 rfl rfl)
theorem dJ26_bitCount_25 : decode cJ26_bitCount 25 = .ok (.iload_n 0, 1) := dk_26 (dk_at dksJ26_bitCount_1 1 rfl rfl)
theorem dJ26_bitCount_26 : decode cJ26_bitCount 26 = .ok (.iconst 4, 1) := dk_7 (dk_at dksJ26_bitCount_1 2 rfl rfl)
theorem dJ26_bitCount_27 : decode cJ26_bitCount 27 = .ok (.iushr, 1) := dk_124 (dk_at dksJ26_bitCount_1 3 rfl rfl)
theorem dJ26_bitCount_28 : decode cJ26_bitCount 28 = .ok (.iadd, 1) := dk_96 (dk_at dksJ26_bitCount_1 4 rfl rfl)
theorem dJ26_bitCount_29 : decode cJ26_bitCount 29 = .ok (.ldc_w 267, 3) := dk_19 1 11 (dk_at dksJ26_bitCount_1 5 rfl rfl)
theorem dJ26_bitCount_32 : decode cJ26_bitCount 32 = .ok (.iand, 1) := dk_126 (dk_at dksJ26_bitCount_1 8 rfl rfl)
theorem dJ26_bitCount_33 : decode cJ26_bitCount 33 = .ok (.istore_n 0, 1) := dk_59 (dk_at dksJ26_bitCount_1 9 rfl rfl)
theorem dJ26_bitCount_34 : decode cJ26_bitCount 34 = .ok (.iload_n 0, 1) := dk_26 (dk_at dksJ26_bitCount_1 10 rfl rfl)
theorem dJ26_bitCount_35 : decode cJ26_bitCount 35 = .ok (.iload_n 0, 1) := dk_26 (dk_at dksJ26_bitCount_1 11 rfl rfl)
theorem dJ26_bitCount_36 : decode cJ26_bitCount 36 = .ok (.bipush 8, 2) := dk_16 8 (dk_at dksJ26_bitCount_1 12 rfl rfl)
theorem dJ26_bitCount_38 : decode cJ26_bitCount 38 = .ok (.iushr, 1) := dk_124 (dk_at dksJ26_bitCount_1 14 rfl rfl)
theorem dJ26_bitCount_39 : decode cJ26_bitCount 39 = .ok (.iadd, 1) := dk_96 (dk_at dksJ26_bitCount_1 15 rfl rfl)
theorem dJ26_bitCount_40 : decode cJ26_bitCount 40 = .ok (.istore_n 0, 1) := dk_59 (dk_at dksJ26_bitCount_1 16 rfl rfl)
theorem dJ26_bitCount_41 : decode cJ26_bitCount 41 = .ok (.iload_n 0, 1) := dk_26 (dk_at dksJ26_bitCount_1 17 rfl rfl)
theorem dJ26_bitCount_42 : decode cJ26_bitCount 42 = .ok (.iload_n 0, 1) := dk_26 (dk_at dksJ26_bitCount_1 18 rfl rfl)
theorem dJ26_bitCount_43 : decode cJ26_bitCount 43 = .ok (.bipush 16, 2) := dk_16 16 (dk_at dksJ26_bitCount_1 19 rfl rfl)
theorem dJ26_bitCount_45 : decode cJ26_bitCount 45 = .ok (.iushr, 1) := dk_124 (dk_at dksJ26_bitCount_1 21 rfl rfl)
theorem dJ26_bitCount_46 : decode cJ26_bitCount 46 = .ok (.iadd, 1) := dk_96 (dk_at dksJ26_bitCount_1 22 rfl rfl)
theorem dJ26_bitCount_47 : decode cJ26_bitCount 47 = .ok (.istore_n 0, 1) := dk_59 (dk_at dksJ26_bitCount_1 23 rfl rfl)
theorem dJ26_bitCount_48 : decode cJ26_bitCount 48 = .ok (.iload_n 0, 1) := dk_26 (dk_at dksJ26_bitCount_2 0 rfl rfl)
theorem dJ26_bitCount_49 : decode cJ26_bitCount 49 = .ok (.bipush 63, 2) := dk_16 63 (dk_at dksJ26_bitCount_2 1 rfl rfl)
theorem dJ26_bitCount_51 : decode cJ26_bitCount 51 = .ok (.iand, 1) := dk_126 (dk_at dksJ26_bitCount_2 3 rfl rfl)
theorem dJ26_bitCount_52 : decode cJ26_bitCount 52 = .ok (.ireturn, 1) := dk_172 (dk_at dksJ26_bitCount_2 4 rfl rfl)
abbrev cJ26_numberOfTrailingZeros : ByteArray := prog_19_method_48_code
def yJ26_numberOfTrailingZeros : MethodName := ⟨RJ26, "numberOfTrailingZeros", "(I)I"⟩
def dkwJ26_numberOfTrailingZeros_3 : List UInt8 := [5, 124, 59, 27, 26, 4, 124, 96, 172]
abbrev dktJ26_numberOfTrailingZeros_3 : List UInt8 := dkwJ26_numberOfTrailingZeros_3 ++ []
def dkwJ26_numberOfTrailingZeros_2 : List UInt8 := [124, 59, 26, 16, 16, 164, 0, 10, 132, 1, 4, 26, 7, 124, 59, 26, 7, 164, 0, 10, 132, 1, 2, 26]
abbrev dktJ26_numberOfTrailingZeros_2 : List UInt8 := dkwJ26_numberOfTrailingZeros_2 ++ dktJ26_numberOfTrailingZeros_3
def dkwJ26_numberOfTrailingZeros_1 : List UInt8 := [164, 0, 11, 132, 1, 16, 26, 16, 16, 124, 59, 26, 17, 1, 0, 164, 0, 11, 132, 1, 8, 26, 16, 8]
abbrev dktJ26_numberOfTrailingZeros_1 : List UInt8 := dkwJ26_numberOfTrailingZeros_1 ++ dktJ26_numberOfTrailingZeros_2
def dkwJ26_numberOfTrailingZeros_0 : List UInt8 := [26, 2, 130, 26, 4, 100, 126, 59, 26, 157, 0, 8, 26, 16, 32, 126, 172, 4, 60, 26, 19, 1, 8]
abbrev dktJ26_numberOfTrailingZeros_0 : List UInt8 := dkwJ26_numberOfTrailingZeros_0 ++ dktJ26_numberOfTrailingZeros_1
theorem dksJ26_numberOfTrailingZeros_0 : cJ26_numberOfTrailingZeros.data.toList.drop 0 = dktJ26_numberOfTrailingZeros_0 := by decide +kernel
theorem dksJ26_numberOfTrailingZeros_1 : cJ26_numberOfTrailingZeros.data.toList.drop 23 = dktJ26_numberOfTrailingZeros_1 := dk_seg dksJ26_numberOfTrailingZeros_0 23 rfl rfl
theorem dksJ26_numberOfTrailingZeros_2 : cJ26_numberOfTrailingZeros.data.toList.drop 47 = dktJ26_numberOfTrailingZeros_2 := dk_seg dksJ26_numberOfTrailingZeros_1 24 rfl rfl
theorem dksJ26_numberOfTrailingZeros_3 : cJ26_numberOfTrailingZeros.data.toList.drop 71 = dktJ26_numberOfTrailingZeros_3 := dk_seg dksJ26_numberOfTrailingZeros_2 24 rfl rfl
theorem dJ26_numberOfTrailingZeros_0 : decode cJ26_numberOfTrailingZeros 0 = .ok (.iload_n 0, 1) := dk_26 (dk_at dksJ26_numberOfTrailingZeros_0 0 rfl rfl)
theorem dJ26_numberOfTrailingZeros_1 : decode cJ26_numberOfTrailingZeros 1 = .ok (.iconst (-1), 1) := dk_2 (dk_at dksJ26_numberOfTrailingZeros_0 1 rfl rfl)
theorem dJ26_numberOfTrailingZeros_2 : decode cJ26_numberOfTrailingZeros 2 = .ok (.ixor, 1) := dk_130 (dk_at dksJ26_numberOfTrailingZeros_0 2 rfl rfl)
theorem dJ26_numberOfTrailingZeros_3 : decode cJ26_numberOfTrailingZeros 3 = .ok (.iload_n 0, 1) := dk_26 (dk_at dksJ26_numberOfTrailingZeros_0 3 rfl rfl)
theorem dJ26_numberOfTrailingZeros_4 : decode cJ26_numberOfTrailingZeros 4 = .ok (.iconst 1, 1) := dk_4 (dk_at dksJ26_numberOfTrailingZeros_0 4 rfl rfl)
theorem dJ26_numberOfTrailingZeros_5 : decode cJ26_numberOfTrailingZeros 5 = .ok (.isub, 1) := dk_100 (dk_at dksJ26_numberOfTrailingZeros_0 5 rfl rfl)
theorem dJ26_numberOfTrailingZeros_6 : decode cJ26_numberOfTrailingZeros 6 = .ok (.iand, 1) := dk_126 (dk_at dksJ26_numberOfTrailingZeros_0 6 rfl rfl)
theorem dJ26_numberOfTrailingZeros_7 : decode cJ26_numberOfTrailingZeros 7 = .ok (.istore_n 0, 1) := dk_59 (dk_at dksJ26_numberOfTrailingZeros_0 7 rfl rfl)
theorem dJ26_numberOfTrailingZeros_8 : decode cJ26_numberOfTrailingZeros 8 = .ok (.iload_n 0, 1) := dk_26 (dk_at dksJ26_numberOfTrailingZeros_0 8 rfl rfl)
theorem dJ26_numberOfTrailingZeros_9 : decode cJ26_numberOfTrailingZeros 9 = .ok (.ifCond .gt 8, 3) := dk_157 0 8 (dk_at dksJ26_numberOfTrailingZeros_0 9 rfl rfl)
theorem dJ26_numberOfTrailingZeros_12 : decode cJ26_numberOfTrailingZeros 12 = .ok (.iload_n 0, 1) := dk_26 (dk_at dksJ26_numberOfTrailingZeros_0 12 rfl rfl)
theorem dJ26_numberOfTrailingZeros_13 : decode cJ26_numberOfTrailingZeros 13 = .ok (.bipush 32, 2) := dk_16 32 (dk_at dksJ26_numberOfTrailingZeros_0 13 rfl rfl)
theorem dJ26_numberOfTrailingZeros_15 : decode cJ26_numberOfTrailingZeros 15 = .ok (.iand, 1) := dk_126 (dk_at dksJ26_numberOfTrailingZeros_0 15 rfl rfl)
theorem dJ26_numberOfTrailingZeros_16 : decode cJ26_numberOfTrailingZeros 16 = .ok (.ireturn, 1) := dk_172 (dk_at dksJ26_numberOfTrailingZeros_0 16 rfl rfl)
theorem dJ26_numberOfTrailingZeros_17 : decode cJ26_numberOfTrailingZeros 17 = .ok (.iconst 1, 1) := dk_4 (dk_at dksJ26_numberOfTrailingZeros_0 17 rfl rfl)
theorem dJ26_numberOfTrailingZeros_18 : decode cJ26_numberOfTrailingZeros 18 = .ok (.istore_n 1, 1) := dk_60 (dk_at dksJ26_numberOfTrailingZeros_0 18 rfl rfl)
theorem dJ26_numberOfTrailingZeros_19 : decode cJ26_numberOfTrailingZeros 19 = .ok (.iload_n 0, 1) := dk_26 (dk_at dksJ26_numberOfTrailingZeros_0 19 rfl rfl)
theorem dJ26_numberOfTrailingZeros_20 : decode cJ26_numberOfTrailingZeros 20 = .ok (.ldc_w 264, 3) := dk_19 1 8 (dk_at dksJ26_numberOfTrailingZeros_0 20 rfl rfl)
theorem dJ26_numberOfTrailingZeros_23 : decode cJ26_numberOfTrailingZeros 23 = .ok (.if_icmp .le 11, 3) := dk_164 0 11 (dk_at dksJ26_numberOfTrailingZeros_1 0 rfl rfl)
theorem dJ26_numberOfTrailingZeros_26 : decode cJ26_numberOfTrailingZeros 26 = .ok (.iinc 1 16, 3) := dk_132 1 16 (dk_at dksJ26_numberOfTrailingZeros_1 3 rfl rfl)
theorem dJ26_numberOfTrailingZeros_29 : decode cJ26_numberOfTrailingZeros 29 = .ok (.iload_n 0, 1) := dk_26 (dk_at dksJ26_numberOfTrailingZeros_1 6 rfl rfl)
theorem dJ26_numberOfTrailingZeros_30 : decode cJ26_numberOfTrailingZeros 30 = .ok (.bipush 16, 2) := dk_16 16 (dk_at dksJ26_numberOfTrailingZeros_1 7 rfl rfl)
theorem dJ26_numberOfTrailingZeros_32 : decode cJ26_numberOfTrailingZeros 32 = .ok (.iushr, 1) := dk_124 (dk_at dksJ26_numberOfTrailingZeros_1 9 rfl rfl)
theorem dJ26_numberOfTrailingZeros_33 : decode cJ26_numberOfTrailingZeros 33 = .ok (.istore_n 0, 1) := dk_59 (dk_at dksJ26_numberOfTrailingZeros_1 10 rfl rfl)
theorem dJ26_numberOfTrailingZeros_34 : decode cJ26_numberOfTrailingZeros 34 = .ok (.iload_n 0, 1) := dk_26 (dk_at dksJ26_numberOfTrailingZeros_1 11 rfl rfl)
theorem dJ26_numberOfTrailingZeros_35 : decode cJ26_numberOfTrailingZeros 35 = .ok (.sipush 256, 3) := dk_17 1 0 (dk_at dksJ26_numberOfTrailingZeros_1 12 rfl rfl)
theorem dJ26_numberOfTrailingZeros_38 : decode cJ26_numberOfTrailingZeros 38 = .ok (.if_icmp .le 11, 3) := dk_164 0 11 (dk_at dksJ26_numberOfTrailingZeros_1 15 rfl rfl)
theorem dJ26_numberOfTrailingZeros_41 : decode cJ26_numberOfTrailingZeros 41 = .ok (.iinc 1 8, 3) := dk_132 1 8 (dk_at dksJ26_numberOfTrailingZeros_1 18 rfl rfl)
theorem dJ26_numberOfTrailingZeros_44 : decode cJ26_numberOfTrailingZeros 44 = .ok (.iload_n 0, 1) := dk_26 (dk_at dksJ26_numberOfTrailingZeros_1 21 rfl rfl)
theorem dJ26_numberOfTrailingZeros_45 : decode cJ26_numberOfTrailingZeros 45 = .ok (.bipush 8, 2) := dk_16 8 (dk_at dksJ26_numberOfTrailingZeros_1 22 rfl rfl)
theorem dJ26_numberOfTrailingZeros_47 : decode cJ26_numberOfTrailingZeros 47 = .ok (.iushr, 1) := dk_124 (dk_at dksJ26_numberOfTrailingZeros_2 0 rfl rfl)
theorem dJ26_numberOfTrailingZeros_48 : decode cJ26_numberOfTrailingZeros 48 = .ok (.istore_n 0, 1) := dk_59 (dk_at dksJ26_numberOfTrailingZeros_2 1 rfl rfl)
theorem dJ26_numberOfTrailingZeros_49 : decode cJ26_numberOfTrailingZeros 49 = .ok (.iload_n 0, 1) := dk_26 (dk_at dksJ26_numberOfTrailingZeros_2 2 rfl rfl)
theorem dJ26_numberOfTrailingZeros_50 : decode cJ26_numberOfTrailingZeros 50 = .ok (.bipush 16, 2) := dk_16 16 (dk_at dksJ26_numberOfTrailingZeros_2 3 rfl rfl)
theorem dJ26_numberOfTrailingZeros_52 : decode cJ26_numberOfTrailingZeros 52 = .ok (.if_icmp .le 10, 3) := dk_164 0 10 (dk_at dksJ26_numberOfTrailingZeros_2 5 rfl rfl)
theorem dJ26_numberOfTrailingZeros_55 : decode cJ26_numberOfTrailingZeros 55 = .ok (.iinc 1 4, 3) := dk_132 1 4 (dk_at dksJ26_numberOfTrailingZeros_2 8 rfl rfl)
theorem dJ26_numberOfTrailingZeros_58 : decode cJ26_numberOfTrailingZeros 58 = .ok (.iload_n 0, 1) := dk_26 (dk_at dksJ26_numberOfTrailingZeros_2 11 rfl rfl)
theorem dJ26_numberOfTrailingZeros_59 : decode cJ26_numberOfTrailingZeros 59 = .ok (.iconst 4, 1) := dk_7 (dk_at dksJ26_numberOfTrailingZeros_2 12 rfl rfl)
theorem dJ26_numberOfTrailingZeros_60 : decode cJ26_numberOfTrailingZeros 60 = .ok (.iushr, 1) := dk_124 (dk_at dksJ26_numberOfTrailingZeros_2 13 rfl rfl)
theorem dJ26_numberOfTrailingZeros_61 : decode cJ26_numberOfTrailingZeros 61 = .ok (.istore_n 0, 1) := dk_59 (dk_at dksJ26_numberOfTrailingZeros_2 14 rfl rfl)
theorem dJ26_numberOfTrailingZeros_62 : decode cJ26_numberOfTrailingZeros 62 = .ok (.iload_n 0, 1) := dk_26 (dk_at dksJ26_numberOfTrailingZeros_2 15 rfl rfl)
theorem dJ26_numberOfTrailingZeros_63 : decode cJ26_numberOfTrailingZeros 63 = .ok (.iconst 4, 1) := dk_7 (dk_at dksJ26_numberOfTrailingZeros_2 16 rfl rfl)
theorem dJ26_numberOfTrailingZeros_64 : decode cJ26_numberOfTrailingZeros 64 = .ok (.if_icmp .le 10, 3) := dk_164 0 10 (dk_at dksJ26_numberOfTrailingZeros_2 17 rfl rfl)
theorem dJ26_numberOfTrailingZeros_67 : decode cJ26_numberOfTrailingZeros 67 = .ok (.iinc 1 2, 3) := dk_132 1 2 (dk_at dksJ26_numberOfTrailingZeros_2 20 rfl rfl)
theorem dJ26_numberOfTrailingZeros_70 : decode cJ26_numberOfTrailingZeros 70 = .ok (.iload_n 0, 1) := dk_26 (dk_at dksJ26_numberOfTrailingZeros_2 23 rfl rfl)
theorem dJ26_numberOfTrailingZeros_71 : decode cJ26_numberOfTrailingZeros 71 = .ok (.iconst 2, 1) := dk_5 (dk_at dksJ26_numberOfTrailingZeros_3 0 rfl rfl)
theorem dJ26_numberOfTrailingZeros_72 : decode cJ26_numberOfTrailingZeros 72 = .ok (.iushr, 1) := dk_124 (dk_at dksJ26_numberOfTrailingZeros_3 1 rfl rfl)
theorem dJ26_numberOfTrailingZeros_73 : decode cJ26_numberOfTrailingZeros 73 = .ok (.istore_n 0, 1) := dk_59 (dk_at dksJ26_numberOfTrailingZeros_3 2 rfl rfl)
theorem dJ26_numberOfTrailingZeros_74 : decode cJ26_numberOfTrailingZeros 74 = .ok (.iload_n 1, 1) := dk_27 (dk_at dksJ26_numberOfTrailingZeros_3 3 rfl rfl)
theorem dJ26_numberOfTrailingZeros_75 : decode cJ26_numberOfTrailingZeros 75 = .ok (.iload_n 0, 1) := dk_26 (dk_at dksJ26_numberOfTrailingZeros_3 4 rfl rfl)
theorem dJ26_numberOfTrailingZeros_76 : decode cJ26_numberOfTrailingZeros 76 = .ok (.iconst 1, 1) := dk_4 (dk_at dksJ26_numberOfTrailingZeros_3 5 rfl rfl)
theorem dJ26_numberOfTrailingZeros_77 : decode cJ26_numberOfTrailingZeros 77 = .ok (.iushr, 1) := dk_124 (dk_at dksJ26_numberOfTrailingZeros_3 6 rfl rfl)
theorem dJ26_numberOfTrailingZeros_78 : decode cJ26_numberOfTrailingZeros 78 = .ok (.iadd, 1) := dk_96 (dk_at dksJ26_numberOfTrailingZeros_3 7 rfl rfl)
theorem dJ26_numberOfTrailingZeros_79 : decode cJ26_numberOfTrailingZeros 79 = .ok (.ireturn, 1) := dk_172 (dk_at dksJ26_numberOfTrailingZeros_3 8 rfl rfl)
abbrev cJ26_signum : ByteArray := prog_19_method_56_code
def yJ26_signum : MethodName := ⟨RJ26, "signum", "(I)I"⟩
def dkwJ26_signum_0 : List UInt8 := [26, 16, 31, 122, 26, 116, 16, 31, 124, 128, 172]
abbrev dktJ26_signum_0 : List UInt8 := dkwJ26_signum_0 ++ []
theorem dksJ26_signum_0 : cJ26_signum.data.toList.drop 0 = dktJ26_signum_0 := by decide +kernel
theorem dJ26_signum_0 : decode cJ26_signum 0 = .ok (.iload_n 0, 1) := dk_26 (dk_at dksJ26_signum_0 0 rfl rfl)
theorem dJ26_signum_1 : decode cJ26_signum 1 = .ok (.bipush 31, 2) := dk_16 31 (dk_at dksJ26_signum_0 1 rfl rfl)
theorem dJ26_signum_3 : decode cJ26_signum 3 = .ok (.ishr, 1) := dk_122 (dk_at dksJ26_signum_0 3 rfl rfl)
theorem dJ26_signum_4 : decode cJ26_signum 4 = .ok (.iload_n 0, 1) := dk_26 (dk_at dksJ26_signum_0 4 rfl rfl)
theorem dJ26_signum_5 : decode cJ26_signum 5 = .ok (.ineg, 1) := dk_116 (dk_at dksJ26_signum_0 5 rfl rfl)
theorem dJ26_signum_6 : decode cJ26_signum 6 = .ok (.bipush 31, 2) := dk_16 31 (dk_at dksJ26_signum_0 6 rfl rfl)
theorem dJ26_signum_8 : decode cJ26_signum 8 = .ok (.iushr, 1) := dk_124 (dk_at dksJ26_signum_0 8 rfl rfl)
theorem dJ26_signum_9 : decode cJ26_signum 9 = .ok (.ior, 1) := dk_128 (dk_at dksJ26_signum_0 9 rfl rfl)
theorem dJ26_signum_10 : decode cJ26_signum 10 = .ok (.ireturn, 1) := dk_172 (dk_at dksJ26_signum_0 10 rfl rfl)
theorem q68 : (Jvm.Cond.initialized "java/lang/Integer") ∈ lw_all := lw_g (lw_at lw_m1 29 rfl) rfl
theorem q682 : (Jvm.Cond.static ({ cls := "java/lang/Integer", name := "stringSize", desc := "(I)I" } : Jvm.MethodName)) ∈ lw_all := lw_g (lw_at lw_m3 163 rfl) rfl
theorem q683 : (Jvm.Cond.code ({ cls := "java/lang/Integer", name := "stringSize", desc := "(I)I" } : Jvm.MethodName) prog_19_method_13_code (4 : Nat) (Option.some Jvm.ClassFile.FieldType.int)) ∈ lw_all := lw_g (lw_at lw_m3 164 rfl) rfl
theorem q685 : (Jvm.Cond.static ({ cls := "java/lang/Integer", name := "getChars", desc := "(II[B)I" } : Jvm.MethodName)) ∈ lw_all := lw_g (lw_at lw_m3 166 rfl) rfl
theorem q686 : (Jvm.Cond.code ({ cls := "java/lang/Integer", name := "getChars", desc := "(II[B)I" } : Jvm.MethodName) prog_19_method_12_code (7 : Nat) (Option.some Jvm.ClassFile.FieldType.int)) ∈ lw_all := lw_g (lw_at lw_m3 167 rfl) rfl
theorem q687 : (Jvm.Cond.fieldLink "java/lang/Integer" (83 : Nat) "java/lang/Integer" "DigitOnes" "[B") ∈ lw_all := lw_g (lw_at lw_m3 168 rfl) rfl
theorem q688 : (Jvm.Cond.laysStatic "java/lang/Integer" "DigitOnes" "[B") ∈ lw_tbl := lw_at lw_m3 169 rfl
theorem q689 : (Jvm.Cond.fieldLink "java/lang/Integer" (87 : Nat) "java/lang/Integer" "DigitTens" "[B") ∈ lw_all := lw_g (lw_at lw_m3 170 rfl) rfl
theorem q690 : (Jvm.Cond.laysStatic "java/lang/Integer" "DigitTens" "[B") ∈ lw_tbl := lw_at lw_m3 171 rfl
theorem q851 : (Jvm.Cond.static ({ cls := "java/lang/Integer", name := "bitCount", desc := "(I)I" } : Jvm.MethodName)) ∈ lw_all := lw_g (lw_at lw_m4 92 rfl) rfl
theorem q852 : (Jvm.Cond.code ({ cls := "java/lang/Integer", name := "bitCount", desc := "(I)I" } : Jvm.MethodName) prog_19_method_49_code (1 : Nat) (Option.some Jvm.ClassFile.FieldType.int)) ∈ lw_all := lw_g (lw_at lw_m4 93 rfl) rfl
theorem q853 : (Jvm.Cond.constant "java/lang/Integer" (265 : Nat) (1431655765 : Int32)) ∈ lw_all := lw_g (lw_at lw_m4 94 rfl) rfl
theorem q854 : (Jvm.Cond.constant "java/lang/Integer" (266 : Nat) (858993459 : Int32)) ∈ lw_all := lw_g (lw_at lw_m4 95 rfl) rfl
theorem q855 : (Jvm.Cond.constant "java/lang/Integer" (267 : Nat) (252645135 : Int32)) ∈ lw_all := lw_g (lw_at lw_m4 96 rfl) rfl
theorem q857 : (Jvm.Cond.static ({ cls := "java/lang/Integer", name := "numberOfTrailingZeros", desc := "(I)I" } : Jvm.MethodName)) ∈ lw_all := lw_g (lw_at lw_m4 98 rfl) rfl
theorem q858 : (Jvm.Cond.code ({ cls := "java/lang/Integer", name := "numberOfTrailingZeros", desc := "(I)I" } : Jvm.MethodName) prog_19_method_48_code (2 : Nat) (Option.some Jvm.ClassFile.FieldType.int)) ∈ lw_all := lw_g (lw_at lw_m4 99 rfl) rfl
theorem q859 : (Jvm.Cond.constant "java/lang/Integer" (264 : Nat) (65536 : Int32)) ∈ lw_all := lw_g (lw_at lw_m4 100 rfl) rfl
theorem q1299 : (Jvm.Cond.static ({ cls := "java/lang/Integer", name := "signum", desc := "(I)I" } : Jvm.MethodName)) ∈ lw_all := lw_g (lw_at lw_m6 60 rfl) rfl
theorem q1300 : (Jvm.Cond.code ({ cls := "java/lang/Integer", name := "signum", desc := "(I)I" } : Jvm.MethodName) prog_19_method_56_code (1 : Nat) (Option.some Jvm.ClassFile.FieldType.int)) ∈ lw_all := lw_g (lw_at lw_m6 61 rfl) rfl
/-! java/lang/Long -/
set_option maxRecDepth 100000
def RJ27 : String := "java/lang/Long"
abbrev cJ27_stringSize : ByteArray := prog_20_method_15_code
def yJ27_stringSize : MethodName := ⟨RJ27, "stringSize", "(J)I"⟩
def dkwJ27_stringSize_2 : List UInt8 := [167, 255, 229, 16, 19, 28, 96, 172]
abbrev dktJ27_stringSize_2 : List UInt8 := dkwJ27_stringSize_2 ++ []
def dkwJ27_stringSize_1 : List UInt8 := [162, 0, 26, 30, 33, 148, 158, 0, 8, 21, 5, 28, 96, 172, 20, 0, 53, 33, 105, 66, 132, 5, 1]
abbrev dktJ27_stringSize_1 : List UInt8 := dkwJ27_stringSize_1 ++ dktJ27_stringSize_2
def dkwJ27_stringSize_0 : List UInt8 := [4, 61, 30, 9, 148, 155, 0, 8, 3, 61, 30, 117, 63, 20, 0, 140, 66, 4, 54, 5, 21, 5, 16, 19]
abbrev dktJ27_stringSize_0 : List UInt8 := dkwJ27_stringSize_0 ++ dktJ27_stringSize_1
theorem dksJ27_stringSize_0 : cJ27_stringSize.data.toList.drop 0 = dktJ27_stringSize_0 := by decide +kernel
theorem dksJ27_stringSize_1 : cJ27_stringSize.data.toList.drop 24 = dktJ27_stringSize_1 := dk_seg dksJ27_stringSize_0 24 rfl rfl
theorem dksJ27_stringSize_2 : cJ27_stringSize.data.toList.drop 47 = dktJ27_stringSize_2 := dk_seg dksJ27_stringSize_1 23 rfl rfl
theorem dJ27_stringSize_0 : decode cJ27_stringSize 0 = .ok (.iconst 1, 1) := dk_4 (dk_at dksJ27_stringSize_0 0 rfl rfl)
theorem dJ27_stringSize_1 : decode cJ27_stringSize 1 = .ok (.istore_n 2, 1) := dk_61 (dk_at dksJ27_stringSize_0 1 rfl rfl)
theorem dJ27_stringSize_2 : decode cJ27_stringSize 2 = .ok (.lload_n 0, 1) := dk_30 (dk_at dksJ27_stringSize_0 2 rfl rfl)
theorem dJ27_stringSize_3 : decode cJ27_stringSize 3 = .ok (.lconst 0, 1) := dk_9 (dk_at dksJ27_stringSize_0 3 rfl rfl)
theorem dJ27_stringSize_4 : decode cJ27_stringSize 4 = .ok (.lcmp, 1) := dk_148 (dk_at dksJ27_stringSize_0 4 rfl rfl)
theorem dJ27_stringSize_5 : decode cJ27_stringSize 5 = .ok (.ifCond .lt 8, 3) := dk_155 0 8 (dk_at dksJ27_stringSize_0 5 rfl rfl)
theorem dJ27_stringSize_8 : decode cJ27_stringSize 8 = .ok (.iconst 0, 1) := dk_3 (dk_at dksJ27_stringSize_0 8 rfl rfl)
theorem dJ27_stringSize_9 : decode cJ27_stringSize 9 = .ok (.istore_n 2, 1) := dk_61 (dk_at dksJ27_stringSize_0 9 rfl rfl)
theorem dJ27_stringSize_10 : decode cJ27_stringSize 10 = .ok (.lload_n 0, 1) := dk_30 (dk_at dksJ27_stringSize_0 10 rfl rfl)
theorem dJ27_stringSize_11 : decode cJ27_stringSize 11 = .ok (.lneg, 1) := dk_117 (dk_at dksJ27_stringSize_0 11 rfl rfl)
theorem dJ27_stringSize_12 : decode cJ27_stringSize 12 = .ok (.lstore_n 0, 1) := dk_63 (dk_at dksJ27_stringSize_0 12 rfl rfl)
theorem dJ27_stringSize_13 : decode cJ27_stringSize 13 = .ok (.ldc2_w 140, 3) := dk_20 0 140 (dk_at dksJ27_stringSize_0 13 rfl rfl)
theorem dJ27_stringSize_16 : decode cJ27_stringSize 16 = .ok (.lstore_n 3, 1) := dk_66 (dk_at dksJ27_stringSize_0 16 rfl rfl)
theorem dJ27_stringSize_17 : decode cJ27_stringSize 17 = .ok (.iconst 1, 1) := dk_4 (dk_at dksJ27_stringSize_0 17 rfl rfl)
theorem dJ27_stringSize_18 : decode cJ27_stringSize 18 = .ok (.istore 5, 2) := dk_54 5 (dk_at dksJ27_stringSize_0 18 rfl rfl)
theorem dJ27_stringSize_20 : decode cJ27_stringSize 20 = .ok (.iload 5, 2) := dk_21 5 (dk_at dksJ27_stringSize_0 20 rfl rfl)
theorem dJ27_stringSize_22 : decode cJ27_stringSize 22 = .ok (.bipush 19, 2) := dk_16 19 (dk_at dksJ27_stringSize_0 22 rfl rfl)
theorem dJ27_stringSize_24 : decode cJ27_stringSize 24 = .ok (.if_icmp .ge 26, 3) := dk_162 0 26 (dk_at dksJ27_stringSize_1 0 rfl rfl)
theorem dJ27_stringSize_27 : decode cJ27_stringSize 27 = .ok (.lload_n 0, 1) := dk_30 (dk_at dksJ27_stringSize_1 3 rfl rfl)
theorem dJ27_stringSize_28 : decode cJ27_stringSize 28 = .ok (.lload_n 3, 1) := dk_33 (dk_at dksJ27_stringSize_1 4 rfl rfl)
theorem dJ27_stringSize_29 : decode cJ27_stringSize 29 = .ok (.lcmp, 1) := dk_148 (dk_at dksJ27_stringSize_1 5 rfl rfl)
theorem dJ27_stringSize_30 : decode cJ27_stringSize 30 = .ok (.ifCond .le 8, 3) := dk_158 0 8 (dk_at dksJ27_stringSize_1 6 rfl rfl)
theorem dJ27_stringSize_33 : decode cJ27_stringSize 33 = .ok (.iload 5, 2) := dk_21 5 (dk_at dksJ27_stringSize_1 9 rfl rfl)
theorem dJ27_stringSize_35 : decode cJ27_stringSize 35 = .ok (.iload_n 2, 1) := dk_28 (dk_at dksJ27_stringSize_1 11 rfl rfl)
theorem dJ27_stringSize_36 : decode cJ27_stringSize 36 = .ok (.iadd, 1) := dk_96 (dk_at dksJ27_stringSize_1 12 rfl rfl)
theorem dJ27_stringSize_37 : decode cJ27_stringSize 37 = .ok (.ireturn, 1) := dk_172 (dk_at dksJ27_stringSize_1 13 rfl rfl)
theorem dJ27_stringSize_38 : decode cJ27_stringSize 38 = .ok (.ldc2_w 53, 3) := dk_20 0 53 (dk_at dksJ27_stringSize_1 14 rfl rfl)
theorem dJ27_stringSize_41 : decode cJ27_stringSize 41 = .ok (.lload_n 3, 1) := dk_33 (dk_at dksJ27_stringSize_1 17 rfl rfl)
theorem dJ27_stringSize_42 : decode cJ27_stringSize 42 = .ok (.lmul, 1) := dk_105 (dk_at dksJ27_stringSize_1 18 rfl rfl)
theorem dJ27_stringSize_43 : decode cJ27_stringSize 43 = .ok (.lstore_n 3, 1) := dk_66 (dk_at dksJ27_stringSize_1 19 rfl rfl)
theorem dJ27_stringSize_44 : decode cJ27_stringSize 44 = .ok (.iinc 5 1, 3) := dk_132 5 1 (dk_at dksJ27_stringSize_1 20 rfl rfl)
theorem dJ27_stringSize_47 : decode cJ27_stringSize 47 = .ok (.goto (-27), 3) := dk_167 255 229 (dk_at dksJ27_stringSize_2 0 rfl rfl)
theorem dJ27_stringSize_50 : decode cJ27_stringSize 50 = .ok (.bipush 19, 2) := dk_16 19 (dk_at dksJ27_stringSize_2 3 rfl rfl)
theorem dJ27_stringSize_52 : decode cJ27_stringSize 52 = .ok (.iload_n 2, 1) := dk_28 (dk_at dksJ27_stringSize_2 5 rfl rfl)
theorem dJ27_stringSize_53 : decode cJ27_stringSize 53 = .ok (.iadd, 1) := dk_96 (dk_at dksJ27_stringSize_2 6 rfl rfl)
theorem dJ27_stringSize_54 : decode cJ27_stringSize 54 = .ok (.ireturn, 1) := dk_172 (dk_at dksJ27_stringSize_2 7 rfl rfl)
abbrev cJ27_getChars : ByteArray := prog_20_method_14_code
def yJ27_getChars : MethodName := ⟨RJ27, "getChars", "(JI[B)I"⟩
def dkwJ27_getChars_8 : List UInt8 := [21, 7, 16, 45, 84, 21, 7, 172]
abbrev dktJ27_getChars_8 : List UInt8 := dkwJ27_getChars_8 ++ []
def dkwJ27_getChars_7 : List UInt8 := [45, 132, 7, 255, 21, 7, 178, 0, 137, 21, 10, 116, 51, 84, 21, 8, 153, 0, 12, 45, 132, 7, 255]
abbrev dktJ27_getChars_7 : List UInt8 := dkwJ27_getChars_7 ++ dktJ27_getChars_8
def dkwJ27_getChars_6 : List UInt8 := [167, 255, 202, 45, 132, 7, 255, 21, 7, 178, 0, 133, 21, 10, 116, 51, 84, 21, 10, 16, 247, 162, 0, 17]
abbrev dktJ27_getChars_6 : List UInt8 := dkwJ27_getChars_6 ++ dktJ27_getChars_7
def dkwJ27_getChars_5 : List UInt8 := [21, 7, 178, 0, 133, 21, 6, 51, 84, 45, 132, 7, 255, 21, 7, 178, 0, 137, 21, 6, 51, 84]
abbrev dktJ27_getChars_5 : List UInt8 := dkwJ27_getChars_5 ++ dktJ27_getChars_6
def dkwJ27_getChars_4 : List UInt8 := [16, 100, 108, 54, 9, 21, 9, 16, 100, 104, 21, 10, 100, 54, 6, 21, 9, 54, 10, 45, 132, 7, 255]
abbrev dktJ27_getChars_4 : List UInt8 := dkwJ27_getChars_4 ++ dktJ27_getChars_5
def dkwJ27_getChars_3 : List UInt8 := [178, 0, 137, 21, 6, 51, 84, 167, 255, 201, 30, 136, 54, 10, 21, 10, 16, 156, 163, 0, 53, 21, 10]
abbrev dktJ27_getChars_3 : List UInt8 := dkwJ27_getChars_3 ++ dktJ27_getChars_4
def dkwJ27_getChars_2 : List UInt8 := [54, 6, 22, 4, 63, 45, 132, 7, 255, 21, 7, 178, 0, 133, 21, 6, 51, 84, 45, 132, 7, 255, 21, 7]
abbrev dktJ27_getChars_2 : List UInt8 := dkwJ27_getChars_2 ++ dktJ27_getChars_3
def dkwJ27_getChars_1 : List UInt8 := [30, 20, 0, 129, 148, 157, 0, 53, 30, 20, 0, 131, 109, 55, 4, 22, 4, 20, 0, 131, 105, 30, 101, 136]
abbrev dktJ27_getChars_1 : List UInt8 := dkwJ27_getChars_1 ++ dktJ27_getChars_2
def dkwJ27_getChars_0 : List UInt8 := [28, 54, 7, 30, 9, 148, 156, 0, 7, 4, 167, 0, 4, 3, 54, 8, 21, 8, 154, 0, 6, 30, 117, 63]
abbrev dktJ27_getChars_0 : List UInt8 := dkwJ27_getChars_0 ++ dktJ27_getChars_1
theorem dksJ27_getChars_0 : cJ27_getChars.data.toList.drop 0 = dktJ27_getChars_0 := by decide +kernel
theorem dksJ27_getChars_1 : cJ27_getChars.data.toList.drop 24 = dktJ27_getChars_1 := dk_seg dksJ27_getChars_0 24 rfl rfl
theorem dksJ27_getChars_2 : cJ27_getChars.data.toList.drop 48 = dktJ27_getChars_2 := dk_seg dksJ27_getChars_1 24 rfl rfl
theorem dksJ27_getChars_3 : cJ27_getChars.data.toList.drop 72 = dktJ27_getChars_3 := dk_seg dksJ27_getChars_2 24 rfl rfl
theorem dksJ27_getChars_4 : cJ27_getChars.data.toList.drop 95 = dktJ27_getChars_4 := dk_seg dksJ27_getChars_3 23 rfl rfl
theorem dksJ27_getChars_5 : cJ27_getChars.data.toList.drop 118 = dktJ27_getChars_5 := dk_seg dksJ27_getChars_4 23 rfl rfl
theorem dksJ27_getChars_6 : cJ27_getChars.data.toList.drop 140 = dktJ27_getChars_6 := dk_seg dksJ27_getChars_5 22 rfl rfl
theorem dksJ27_getChars_7 : cJ27_getChars.data.toList.drop 164 = dktJ27_getChars_7 := dk_seg dksJ27_getChars_6 24 rfl rfl
theorem dksJ27_getChars_8 : cJ27_getChars.data.toList.drop 187 = dktJ27_getChars_8 := dk_seg dksJ27_getChars_7 23 rfl rfl
theorem dJ27_getChars_0 : decode cJ27_getChars 0 = .ok (.iload_n 2, 1) := dk_28 (dk_at dksJ27_getChars_0 0 rfl rfl)
theorem dJ27_getChars_1 : decode cJ27_getChars 1 = .ok (.istore 7, 2) := dk_54 7 (dk_at dksJ27_getChars_0 1 rfl rfl)
theorem dJ27_getChars_3 : decode cJ27_getChars 3 = .ok (.lload_n 0, 1) := dk_30 (dk_at dksJ27_getChars_0 3 rfl rfl)
theorem dJ27_getChars_4 : decode cJ27_getChars 4 = .ok (.lconst 0, 1) := dk_9 (dk_at dksJ27_getChars_0 4 rfl rfl)
theorem dJ27_getChars_5 : decode cJ27_getChars 5 = .ok (.lcmp, 1) := dk_148 (dk_at dksJ27_getChars_0 5 rfl rfl)
theorem dJ27_getChars_6 : decode cJ27_getChars 6 = .ok (.ifCond .ge 7, 3) := dk_156 0 7 (dk_at dksJ27_getChars_0 6 rfl rfl)
theorem dJ27_getChars_9 : decode cJ27_getChars 9 = .ok (.iconst 1, 1) := dk_4 (dk_at dksJ27_getChars_0 9 rfl rfl)
theorem dJ27_getChars_10 : decode cJ27_getChars 10 = .ok (.goto 4, 3) := dk_167 0 4 (dk_at dksJ27_getChars_0 10 rfl rfl)
theorem dJ27_getChars_13 : decode cJ27_getChars 13 = .ok (.iconst 0, 1) := dk_3 (dk_at dksJ27_getChars_0 13 rfl rfl)
theorem dJ27_getChars_14 : decode cJ27_getChars 14 = .ok (.istore 8, 2) := dk_54 8 (dk_at dksJ27_getChars_0 14 rfl rfl)
theorem dJ27_getChars_16 : decode cJ27_getChars 16 = .ok (.iload 8, 2) := dk_21 8 (dk_at dksJ27_getChars_0 16 rfl rfl)
theorem dJ27_getChars_18 : decode cJ27_getChars 18 = .ok (.ifCond .ne 6, 3) := dk_154 0 6 (dk_at dksJ27_getChars_0 18 rfl rfl)
theorem dJ27_getChars_21 : decode cJ27_getChars 21 = .ok (.lload_n 0, 1) := dk_30 (dk_at dksJ27_getChars_0 21 rfl rfl)
theorem dJ27_getChars_22 : decode cJ27_getChars 22 = .ok (.lneg, 1) := dk_117 (dk_at dksJ27_getChars_0 22 rfl rfl)
theorem dJ27_getChars_23 : decode cJ27_getChars 23 = .ok (.lstore_n 0, 1) := dk_63 (dk_at dksJ27_getChars_0 23 rfl rfl)
theorem dJ27_getChars_24 : decode cJ27_getChars 24 = .ok (.lload_n 0, 1) := dk_30 (dk_at dksJ27_getChars_1 0 rfl rfl)
theorem dJ27_getChars_25 : decode cJ27_getChars 25 = .ok (.ldc2_w 129, 3) := dk_20 0 129 (dk_at dksJ27_getChars_1 1 rfl rfl)
theorem dJ27_getChars_28 : decode cJ27_getChars 28 = .ok (.lcmp, 1) := dk_148 (dk_at dksJ27_getChars_1 4 rfl rfl)
theorem dJ27_getChars_29 : decode cJ27_getChars 29 = .ok (.ifCond .gt 53, 3) := dk_157 0 53 (dk_at dksJ27_getChars_1 5 rfl rfl)
theorem dJ27_getChars_32 : decode cJ27_getChars 32 = .ok (.lload_n 0, 1) := dk_30 (dk_at dksJ27_getChars_1 8 rfl rfl)
theorem dJ27_getChars_33 : decode cJ27_getChars 33 = .ok (.ldc2_w 131, 3) := dk_20 0 131 (dk_at dksJ27_getChars_1 9 rfl rfl)
theorem dJ27_getChars_36 : decode cJ27_getChars 36 = .ok (.ldiv, 1) := dk_109 (dk_at dksJ27_getChars_1 12 rfl rfl)
theorem dJ27_getChars_37 : decode cJ27_getChars 37 = .ok (.lstore 4, 2) := dk_55 4 (dk_at dksJ27_getChars_1 13 rfl rfl)
theorem dJ27_getChars_39 : decode cJ27_getChars 39 = .ok (.lload 4, 2) := dk_22 4 (dk_at dksJ27_getChars_1 15 rfl rfl)
theorem dJ27_getChars_41 : decode cJ27_getChars 41 = .ok (.ldc2_w 131, 3) := dk_20 0 131 (dk_at dksJ27_getChars_1 17 rfl rfl)
theorem dJ27_getChars_44 : decode cJ27_getChars 44 = .ok (.lmul, 1) := dk_105 (dk_at dksJ27_getChars_1 20 rfl rfl)
theorem dJ27_getChars_45 : decode cJ27_getChars 45 = .ok (.lload_n 0, 1) := dk_30 (dk_at dksJ27_getChars_1 21 rfl rfl)
theorem dJ27_getChars_46 : decode cJ27_getChars 46 = .ok (.lsub, 1) := dk_101 (dk_at dksJ27_getChars_1 22 rfl rfl)
theorem dJ27_getChars_47 : decode cJ27_getChars 47 = .ok (.l2i, 1) := dk_136 (dk_at dksJ27_getChars_1 23 rfl rfl)
theorem dJ27_getChars_48 : decode cJ27_getChars 48 = .ok (.istore 6, 2) := dk_54 6 (dk_at dksJ27_getChars_2 0 rfl rfl)
theorem dJ27_getChars_50 : decode cJ27_getChars 50 = .ok (.lload 4, 2) := dk_22 4 (dk_at dksJ27_getChars_2 2 rfl rfl)
theorem dJ27_getChars_52 : decode cJ27_getChars 52 = .ok (.lstore_n 0, 1) := dk_63 (dk_at dksJ27_getChars_2 4 rfl rfl)
theorem dJ27_getChars_53 : decode cJ27_getChars 53 = .ok (.aload_n 3, 1) := dk_45 (dk_at dksJ27_getChars_2 5 rfl rfl)
theorem dJ27_getChars_54 : decode cJ27_getChars 54 = .ok (.iinc 7 (-1), 3) := dk_132 7 255 (dk_at dksJ27_getChars_2 6 rfl rfl)
theorem dJ27_getChars_57 : decode cJ27_getChars 57 = .ok (.iload 7, 2) := dk_21 7 (dk_at dksJ27_getChars_2 9 rfl rfl)
theorem dJ27_getChars_59 : decode cJ27_getChars 59 = .ok (.getstatic 133, 3) := dk_178 0 133 (dk_at dksJ27_getChars_2 11 rfl rfl)
theorem dJ27_getChars_62 : decode cJ27_getChars 62 = .ok (.iload 6, 2) := dk_21 6 (dk_at dksJ27_getChars_2 14 rfl rfl)
theorem dJ27_getChars_64 : decode cJ27_getChars 64 = .ok (.baload, 1) := dk_51 (dk_at dksJ27_getChars_2 16 rfl rfl)
theorem dJ27_getChars_65 : decode cJ27_getChars 65 = .ok (.bastore, 1) := dk_84 (dk_at dksJ27_getChars_2 17 rfl rfl)
theorem dJ27_getChars_66 : decode cJ27_getChars 66 = .ok (.aload_n 3, 1) := dk_45 (dk_at dksJ27_getChars_2 18 rfl rfl)
theorem dJ27_getChars_67 : decode cJ27_getChars 67 = .ok (.iinc 7 (-1), 3) := dk_132 7 255 (dk_at dksJ27_getChars_2 19 rfl rfl)
theorem dJ27_getChars_70 : decode cJ27_getChars 70 = .ok (.iload 7, 2) := dk_21 7 (dk_at dksJ27_getChars_2 22 rfl rfl)
theorem dJ27_getChars_72 : decode cJ27_getChars 72 = .ok (.getstatic 137, 3) := dk_178 0 137 (dk_at dksJ27_getChars_3 0 rfl rfl)
theorem dJ27_getChars_75 : decode cJ27_getChars 75 = .ok (.iload 6, 2) := dk_21 6 (dk_at dksJ27_getChars_3 3 rfl rfl)
theorem dJ27_getChars_77 : decode cJ27_getChars 77 = .ok (.baload, 1) := dk_51 (dk_at dksJ27_getChars_3 5 rfl rfl)
theorem dJ27_getChars_78 : decode cJ27_getChars 78 = .ok (.bastore, 1) := dk_84 (dk_at dksJ27_getChars_3 6 rfl rfl)
theorem dJ27_getChars_79 : decode cJ27_getChars 79 = .ok (.goto (-55), 3) := dk_167 255 201 (dk_at dksJ27_getChars_3 7 rfl rfl)
theorem dJ27_getChars_82 : decode cJ27_getChars 82 = .ok (.lload_n 0, 1) := dk_30 (dk_at dksJ27_getChars_3 10 rfl rfl)
theorem dJ27_getChars_83 : decode cJ27_getChars 83 = .ok (.l2i, 1) := dk_136 (dk_at dksJ27_getChars_3 11 rfl rfl)
theorem dJ27_getChars_84 : decode cJ27_getChars 84 = .ok (.istore 10, 2) := dk_54 10 (dk_at dksJ27_getChars_3 12 rfl rfl)
theorem dJ27_getChars_86 : decode cJ27_getChars 86 = .ok (.iload 10, 2) := dk_21 10 (dk_at dksJ27_getChars_3 14 rfl rfl)
theorem dJ27_getChars_88 : decode cJ27_getChars 88 = .ok (.bipush (-100), 2) := dk_16 156 (dk_at dksJ27_getChars_3 16 rfl rfl)
theorem dJ27_getChars_90 : decode cJ27_getChars 90 = .ok (.if_icmp .gt 53, 3) := dk_163 0 53 (dk_at dksJ27_getChars_3 18 rfl rfl)
theorem dJ27_getChars_93 : decode cJ27_getChars 93 = .ok (.iload 10, 2) := dk_21 10 (dk_at dksJ27_getChars_3 21 rfl rfl)
theorem dJ27_getChars_95 : decode cJ27_getChars 95 = .ok (.bipush 100, 2) := dk_16 100 (dk_at dksJ27_getChars_4 0 rfl rfl)
theorem dJ27_getChars_97 : decode cJ27_getChars 97 = .ok (.idiv, 1) := dk_108 (dk_at dksJ27_getChars_4 2 rfl rfl)
theorem dJ27_getChars_98 : decode cJ27_getChars 98 = .ok (.istore 9, 2) := dk_54 9 (dk_at dksJ27_getChars_4 3 rfl rfl)
theorem dJ27_getChars_100 : decode cJ27_getChars 100 = .ok (.iload 9, 2) := dk_21 9 (dk_at dksJ27_getChars_4 5 rfl rfl)
theorem dJ27_getChars_102 : decode cJ27_getChars 102 = .ok (.bipush 100, 2) := dk_16 100 (dk_at dksJ27_getChars_4 7 rfl rfl)
theorem dJ27_getChars_104 : decode cJ27_getChars 104 = .ok (.imul, 1) := dk_104 (dk_at dksJ27_getChars_4 9 rfl rfl)
theorem dJ27_getChars_105 : decode cJ27_getChars 105 = .ok (.iload 10, 2) := dk_21 10 (dk_at dksJ27_getChars_4 10 rfl rfl)
theorem dJ27_getChars_107 : decode cJ27_getChars 107 = .ok (.isub, 1) := dk_100 (dk_at dksJ27_getChars_4 12 rfl rfl)
theorem dJ27_getChars_108 : decode cJ27_getChars 108 = .ok (.istore 6, 2) := dk_54 6 (dk_at dksJ27_getChars_4 13 rfl rfl)
theorem dJ27_getChars_110 : decode cJ27_getChars 110 = .ok (.iload 9, 2) := dk_21 9 (dk_at dksJ27_getChars_4 15 rfl rfl)
theorem dJ27_getChars_112 : decode cJ27_getChars 112 = .ok (.istore 10, 2) := dk_54 10 (dk_at dksJ27_getChars_4 17 rfl rfl)
theorem dJ27_getChars_114 : decode cJ27_getChars 114 = .ok (.aload_n 3, 1) := dk_45 (dk_at dksJ27_getChars_4 19 rfl rfl)
theorem dJ27_getChars_115 : decode cJ27_getChars 115 = .ok (.iinc 7 (-1), 3) := dk_132 7 255 (dk_at dksJ27_getChars_4 20 rfl rfl)
theorem dJ27_getChars_118 : decode cJ27_getChars 118 = .ok (.iload 7, 2) := dk_21 7 (dk_at dksJ27_getChars_5 0 rfl rfl)
theorem dJ27_getChars_120 : decode cJ27_getChars 120 = .ok (.getstatic 133, 3) := dk_178 0 133 (dk_at dksJ27_getChars_5 2 rfl rfl)
theorem dJ27_getChars_123 : decode cJ27_getChars 123 = .ok (.iload 6, 2) := dk_21 6 (dk_at dksJ27_getChars_5 5 rfl rfl)
theorem dJ27_getChars_125 : decode cJ27_getChars 125 = .ok (.baload, 1) := dk_51 (dk_at dksJ27_getChars_5 7 rfl rfl)
theorem dJ27_getChars_126 : decode cJ27_getChars 126 = .ok (.bastore, 1) := dk_84 (dk_at dksJ27_getChars_5 8 rfl rfl)
theorem dJ27_getChars_127 : decode cJ27_getChars 127 = .ok (.aload_n 3, 1) := dk_45 (dk_at dksJ27_getChars_5 9 rfl rfl)
theorem dJ27_getChars_128 : decode cJ27_getChars 128 = .ok (.iinc 7 (-1), 3) := dk_132 7 255 (dk_at dksJ27_getChars_5 10 rfl rfl)
theorem dJ27_getChars_131 : decode cJ27_getChars 131 = .ok (.iload 7, 2) := dk_21 7 (dk_at dksJ27_getChars_5 13 rfl rfl)
theorem dJ27_getChars_133 : decode cJ27_getChars 133 = .ok (.getstatic 137, 3) := dk_178 0 137 (dk_at dksJ27_getChars_5 15 rfl rfl)
theorem dJ27_getChars_136 : decode cJ27_getChars 136 = .ok (.iload 6, 2) := dk_21 6 (dk_at dksJ27_getChars_5 18 rfl rfl)
theorem dJ27_getChars_138 : decode cJ27_getChars 138 = .ok (.baload, 1) := dk_51 (dk_at dksJ27_getChars_5 20 rfl rfl)
theorem dJ27_getChars_139 : decode cJ27_getChars 139 = .ok (.bastore, 1) := dk_84 (dk_at dksJ27_getChars_5 21 rfl rfl)
theorem dJ27_getChars_140 : decode cJ27_getChars 140 = .ok (.goto (-54), 3) := dk_167 255 202 (dk_at dksJ27_getChars_6 0 rfl rfl)
theorem dJ27_getChars_143 : decode cJ27_getChars 143 = .ok (.aload_n 3, 1) := dk_45 (dk_at dksJ27_getChars_6 3 rfl rfl)
theorem dJ27_getChars_144 : decode cJ27_getChars 144 = .ok (.iinc 7 (-1), 3) := dk_132 7 255 (dk_at dksJ27_getChars_6 4 rfl rfl)
theorem dJ27_getChars_147 : decode cJ27_getChars 147 = .ok (.iload 7, 2) := dk_21 7 (dk_at dksJ27_getChars_6 7 rfl rfl)
theorem dJ27_getChars_149 : decode cJ27_getChars 149 = .ok (.getstatic 133, 3) := dk_178 0 133 (dk_at dksJ27_getChars_6 9 rfl rfl)
theorem dJ27_getChars_152 : decode cJ27_getChars 152 = .ok (.iload 10, 2) := dk_21 10 (dk_at dksJ27_getChars_6 12 rfl rfl)
theorem dJ27_getChars_154 : decode cJ27_getChars 154 = .ok (.ineg, 1) := dk_116 (dk_at dksJ27_getChars_6 14 rfl rfl)
theorem dJ27_getChars_155 : decode cJ27_getChars 155 = .ok (.baload, 1) := dk_51 (dk_at dksJ27_getChars_6 15 rfl rfl)
theorem dJ27_getChars_156 : decode cJ27_getChars 156 = .ok (.bastore, 1) := dk_84 (dk_at dksJ27_getChars_6 16 rfl rfl)
theorem dJ27_getChars_157 : decode cJ27_getChars 157 = .ok (.iload 10, 2) := dk_21 10 (dk_at dksJ27_getChars_6 17 rfl rfl)
theorem dJ27_getChars_159 : decode cJ27_getChars 159 = .ok (.bipush (-9), 2) := dk_16 247 (dk_at dksJ27_getChars_6 19 rfl rfl)
theorem dJ27_getChars_161 : decode cJ27_getChars 161 = .ok (.if_icmp .ge 17, 3) := dk_162 0 17 (dk_at dksJ27_getChars_6 21 rfl rfl)
theorem dJ27_getChars_164 : decode cJ27_getChars 164 = .ok (.aload_n 3, 1) := dk_45 (dk_at dksJ27_getChars_7 0 rfl rfl)
theorem dJ27_getChars_165 : decode cJ27_getChars 165 = .ok (.iinc 7 (-1), 3) := dk_132 7 255 (dk_at dksJ27_getChars_7 1 rfl rfl)
theorem dJ27_getChars_168 : decode cJ27_getChars 168 = .ok (.iload 7, 2) := dk_21 7 (dk_at dksJ27_getChars_7 4 rfl rfl)
theorem dJ27_getChars_170 : decode cJ27_getChars 170 = .ok (.getstatic 137, 3) := dk_178 0 137 (dk_at dksJ27_getChars_7 6 rfl rfl)
theorem dJ27_getChars_173 : decode cJ27_getChars 173 = .ok (.iload 10, 2) := dk_21 10 (dk_at dksJ27_getChars_7 9 rfl rfl)
theorem dJ27_getChars_175 : decode cJ27_getChars 175 = .ok (.ineg, 1) := dk_116 (dk_at dksJ27_getChars_7 11 rfl rfl)
theorem dJ27_getChars_176 : decode cJ27_getChars 176 = .ok (.baload, 1) := dk_51 (dk_at dksJ27_getChars_7 12 rfl rfl)
theorem dJ27_getChars_177 : decode cJ27_getChars 177 = .ok (.bastore, 1) := dk_84 (dk_at dksJ27_getChars_7 13 rfl rfl)
theorem dJ27_getChars_178 : decode cJ27_getChars 178 = .ok (.iload 8, 2) := dk_21 8 (dk_at dksJ27_getChars_7 14 rfl rfl)
theorem dJ27_getChars_180 : decode cJ27_getChars 180 = .ok (.ifCond .eq 12, 3) := dk_153 0 12 (dk_at dksJ27_getChars_7 16 rfl rfl)
theorem dJ27_getChars_183 : decode cJ27_getChars 183 = .ok (.aload_n 3, 1) := dk_45 (dk_at dksJ27_getChars_7 19 rfl rfl)
theorem dJ27_getChars_184 : decode cJ27_getChars 184 = .ok (.iinc 7 (-1), 3) := dk_132 7 255 (dk_at dksJ27_getChars_7 20 rfl rfl)
theorem dJ27_getChars_187 : decode cJ27_getChars 187 = .ok (.iload 7, 2) := dk_21 7 (dk_at dksJ27_getChars_8 0 rfl rfl)
theorem dJ27_getChars_189 : decode cJ27_getChars 189 = .ok (.bipush 45, 2) := dk_16 45 (dk_at dksJ27_getChars_8 2 rfl rfl)
theorem dJ27_getChars_191 : decode cJ27_getChars 191 = .ok (.bastore, 1) := dk_84 (dk_at dksJ27_getChars_8 4 rfl rfl)
theorem dJ27_getChars_192 : decode cJ27_getChars 192 = .ok (.iload 7, 2) := dk_21 7 (dk_at dksJ27_getChars_8 5 rfl rfl)
theorem dJ27_getChars_194 : decode cJ27_getChars 194 = .ok (.ireturn, 1) := dk_172 (dk_at dksJ27_getChars_8 7 rfl rfl)
abbrev cJ27_parseLong : ByteArray := prog_20_method_18_code
def yJ27_parseLong : MethodName := ⟨RJ27, "parseLong", "(Ljava/lang/String;)J"⟩
def dkwJ27_parseLong_0 : List UInt8 := [42, 16, 10, 184, 0, 198, 173]
abbrev dktJ27_parseLong_0 : List UInt8 := dkwJ27_parseLong_0 ++ []
theorem dksJ27_parseLong_0 : cJ27_parseLong.data.toList.drop 0 = dktJ27_parseLong_0 := by decide +kernel
theorem dJ27_parseLong_0 : decode cJ27_parseLong 0 = .ok (.aload_n 0, 1) := dk_42 (dk_at dksJ27_parseLong_0 0 rfl rfl)
theorem dJ27_parseLong_1 : decode cJ27_parseLong 1 = .ok (.bipush 10, 2) := dk_16 10 (dk_at dksJ27_parseLong_0 1 rfl rfl)
theorem dJ27_parseLong_3 : decode cJ27_parseLong 3 = .ok (.invokestatic 198, 3) := dk_184 0 198 (dk_at dksJ27_parseLong_0 3 rfl rfl)
theorem dJ27_parseLong_6 : decode cJ27_parseLong 6 = .ok (.lreturn, 1) := dk_173 (dk_at dksJ27_parseLong_0 6 rfl rfl)
abbrev cJ27_parseLong_2 : ByteArray := prog_20_method_16_code
def yJ27_parseLong_2 : MethodName := ⟨RJ27, "parseLong", "(Ljava/lang/String;I)J"⟩
def dkwJ27_parseLong_2_11 : List UInt8 := [167, 0, 6, 22, 10, 117, 173, 42, 27, 184, 0, 170, 191]
abbrev dktJ27_parseLong_2_11 : List UInt8 := dkwJ27_parseLong_2_11 ++ []
def dkwJ27_parseLong_2_10 : List UInt8 := [27, 184, 0, 170, 191, 22, 10, 21, 12, 133, 101, 55, 10, 167, 255, 184, 28, 153, 0, 8, 22, 10]
abbrev dktJ27_parseLong_2_10 : List UInt8 := dkwJ27_parseLong_2_10 ++ dktJ27_parseLong_2_11
def dkwJ27_parseLong_2_9 : List UInt8 := [184, 0, 170, 191, 22, 10, 27, 133, 105, 55, 10, 22, 10, 22, 5, 21, 12, 133, 97, 148, 156, 0, 9, 42]
abbrev dktJ27_parseLong_2_9 : List UInt8 := dkwJ27_parseLong_2_9 ++ dktJ27_parseLong_2_10
def dkwJ27_parseLong_2_8 : List UInt8 := [182, 0, 164, 27, 184, 0, 174, 54, 12, 21, 12, 155, 0, 11, 22, 10, 22, 8, 148, 156, 0, 9, 42, 27]
abbrev dktJ27_parseLong_2_8 : List UInt8 := dkwJ27_parseLong_2_8 ++ dktJ27_parseLong_2_9
def dkwJ27_parseLong_2_7 : List UInt8 := [132, 3, 1, 22, 5, 27, 133, 109, 55, 8, 9, 55, 10, 29, 21, 4, 162, 0, 72, 42, 29, 132, 3, 1]
abbrev dktJ27_parseLong_2_7 : List UInt8 := dkwJ27_parseLong_2_7 ++ dktJ27_parseLong_2_8
def dkwJ27_parseLong_2_6 : List UInt8 := [16, 43, 159, 0, 9, 42, 27, 184, 0, 170, 191, 21, 4, 4, 160, 0, 9, 42, 27, 184, 0, 170, 191]
abbrev dktJ27_parseLong_2_6 : List UInt8 := dkwJ27_parseLong_2_6 ++ dktJ27_parseLong_2_7
def dkwJ27_parseLong_2_5 : List UInt8 := [16, 48, 162, 0, 48, 21, 7, 16, 45, 160, 0, 13, 4, 61, 20, 0, 168, 55, 5, 167, 0, 16, 21, 7]
abbrev dktJ27_parseLong_2_5 : List UInt8 := dkwJ27_parseLong_2_5 ++ dktJ27_parseLong_2_6
def dkwJ27_parseLong_2_4 : List UInt8 := [182, 0, 158, 54, 4, 20, 0, 162, 55, 5, 21, 4, 158, 0, 160, 42, 3, 182, 0, 164, 54, 7, 21, 7]
abbrev dktJ27_parseLong_2_4 : List UInt8 := dkwJ27_parseLong_2_4 ++ dktJ27_parseLong_2_5
def dkwJ27_parseLong_2_3 : List UInt8 := [182, 0, 61, 27, 182, 0, 151, 18, 156, 182, 0, 61, 182, 0, 68, 183, 0, 146, 191, 3, 61, 3, 62, 42]
abbrev dktJ27_parseLong_2_3 : List UInt8 := dkwJ27_parseLong_2_3 ++ dktJ27_parseLong_2_4
def dkwJ27_parseLong_2_2 : List UInt8 := [183, 0, 146, 191, 27, 16, 36, 164, 0, 35, 187, 0, 142, 89, 187, 0, 55, 89, 183, 0, 57, 18, 149]
abbrev dktJ27_parseLong_2_2 : List UInt8 := dkwJ27_parseLong_2_2 ++ dktJ27_parseLong_2_3
def dkwJ27_parseLong_2_1 : List UInt8 := [187, 0, 55, 89, 183, 0, 57, 18, 149, 182, 0, 61, 27, 182, 0, 151, 18, 154, 182, 0, 61, 182, 0, 68]
abbrev dktJ27_parseLong_2_1 : List UInt8 := dkwJ27_parseLong_2_1 ++ dktJ27_parseLong_2_2
def dkwJ27_parseLong_2_0 : List UInt8 := [42, 199, 0, 13, 187, 0, 142, 89, 18, 144, 183, 0, 146, 191, 27, 5, 162, 0, 35, 187, 0, 142, 89]
abbrev dktJ27_parseLong_2_0 : List UInt8 := dkwJ27_parseLong_2_0 ++ dktJ27_parseLong_2_1
theorem dksJ27_parseLong_2_0 : cJ27_parseLong_2.data.toList.drop 0 = dktJ27_parseLong_2_0 := by decide +kernel
theorem dksJ27_parseLong_2_1 : cJ27_parseLong_2.data.toList.drop 23 = dktJ27_parseLong_2_1 := dk_seg dksJ27_parseLong_2_0 23 rfl rfl
theorem dksJ27_parseLong_2_2 : cJ27_parseLong_2.data.toList.drop 47 = dktJ27_parseLong_2_2 := dk_seg dksJ27_parseLong_2_1 24 rfl rfl
theorem dksJ27_parseLong_2_3 : cJ27_parseLong_2.data.toList.drop 70 = dktJ27_parseLong_2_3 := dk_seg dksJ27_parseLong_2_2 23 rfl rfl
theorem dksJ27_parseLong_2_4 : cJ27_parseLong_2.data.toList.drop 94 = dktJ27_parseLong_2_4 := dk_seg dksJ27_parseLong_2_3 24 rfl rfl
theorem dksJ27_parseLong_2_5 : cJ27_parseLong_2.data.toList.drop 118 = dktJ27_parseLong_2_5 := dk_seg dksJ27_parseLong_2_4 24 rfl rfl
theorem dksJ27_parseLong_2_6 : cJ27_parseLong_2.data.toList.drop 142 = dktJ27_parseLong_2_6 := dk_seg dksJ27_parseLong_2_5 24 rfl rfl
theorem dksJ27_parseLong_2_7 : cJ27_parseLong_2.data.toList.drop 165 = dktJ27_parseLong_2_7 := dk_seg dksJ27_parseLong_2_6 23 rfl rfl
theorem dksJ27_parseLong_2_8 : cJ27_parseLong_2.data.toList.drop 189 = dktJ27_parseLong_2_8 := dk_seg dksJ27_parseLong_2_7 24 rfl rfl
theorem dksJ27_parseLong_2_9 : cJ27_parseLong_2.data.toList.drop 213 = dktJ27_parseLong_2_9 := dk_seg dksJ27_parseLong_2_8 24 rfl rfl
theorem dksJ27_parseLong_2_10 : cJ27_parseLong_2.data.toList.drop 237 = dktJ27_parseLong_2_10 := dk_seg dksJ27_parseLong_2_9 24 rfl rfl
theorem dksJ27_parseLong_2_11 : cJ27_parseLong_2.data.toList.drop 259 = dktJ27_parseLong_2_11 := dk_seg dksJ27_parseLong_2_10 22 rfl rfl
theorem dJ27_parseLong_2_0 : decode cJ27_parseLong_2 0 = .ok (.aload_n 0, 1) := dk_42 (dk_at dksJ27_parseLong_2_0 0 rfl rfl)
theorem dJ27_parseLong_2_1 : decode cJ27_parseLong_2 1 = .ok (.ifnonnull 13, 3) := dk_199 0 13 (dk_at dksJ27_parseLong_2_0 1 rfl rfl)
theorem dJ27_parseLong_2_4 : decode cJ27_parseLong_2 4 = .ok (.new 142, 3) := dk_187 0 142 (dk_at dksJ27_parseLong_2_0 4 rfl rfl)
theorem dJ27_parseLong_2_7 : decode cJ27_parseLong_2 7 = .ok (.dup, 1) := dk_89 (dk_at dksJ27_parseLong_2_0 7 rfl rfl)
theorem dJ27_parseLong_2_8 : decode cJ27_parseLong_2 8 = .ok (.ldc 144, 2) := dk_18 144 (dk_at dksJ27_parseLong_2_0 8 rfl rfl)
theorem dJ27_parseLong_2_10 : decode cJ27_parseLong_2 10 = .ok (.invokespecial 146, 3) := dk_183 0 146 (dk_at dksJ27_parseLong_2_0 10 rfl rfl)
theorem dJ27_parseLong_2_13 : decode cJ27_parseLong_2 13 = .ok (.athrow, 1) := dk_191 (dk_at dksJ27_parseLong_2_0 13 rfl rfl)
theorem dJ27_parseLong_2_14 : decode cJ27_parseLong_2 14 = .ok (.iload_n 1, 1) := dk_27 (dk_at dksJ27_parseLong_2_0 14 rfl rfl)
theorem dJ27_parseLong_2_15 : decode cJ27_parseLong_2 15 = .ok (.iconst 2, 1) := dk_5 (dk_at dksJ27_parseLong_2_0 15 rfl rfl)
theorem dJ27_parseLong_2_16 : decode cJ27_parseLong_2 16 = .ok (.if_icmp .ge 35, 3) := dk_162 0 35 (dk_at dksJ27_parseLong_2_0 16 rfl rfl)
theorem dJ27_parseLong_2_19 : decode cJ27_parseLong_2 19 = .ok (.new 142, 3) := dk_187 0 142 (dk_at dksJ27_parseLong_2_0 19 rfl rfl)
theorem dJ27_parseLong_2_22 : decode cJ27_parseLong_2 22 = .ok (.dup, 1) := dk_89 (dk_at dksJ27_parseLong_2_0 22 rfl rfl)
theorem dJ27_parseLong_2_23 : decode cJ27_parseLong_2 23 = .ok (.new 55, 3) := dk_187 0 55 (dk_at dksJ27_parseLong_2_1 0 rfl rfl)
theorem dJ27_parseLong_2_26 : decode cJ27_parseLong_2 26 = .ok (.dup, 1) := dk_89 (dk_at dksJ27_parseLong_2_1 3 rfl rfl)
theorem dJ27_parseLong_2_27 : decode cJ27_parseLong_2 27 = .ok (.invokespecial 57, 3) := dk_183 0 57 (dk_at dksJ27_parseLong_2_1 4 rfl rfl)
theorem dJ27_parseLong_2_30 : decode cJ27_parseLong_2 30 = .ok (.ldc 149, 2) := dk_18 149 (dk_at dksJ27_parseLong_2_1 7 rfl rfl)
theorem dJ27_parseLong_2_32 : decode cJ27_parseLong_2 32 = .ok (.invokevirtual 61, 3) := dk_182 0 61 (dk_at dksJ27_parseLong_2_1 9 rfl rfl)
theorem dJ27_parseLong_2_35 : decode cJ27_parseLong_2 35 = .ok (.iload_n 1, 1) := dk_27 (dk_at dksJ27_parseLong_2_1 12 rfl rfl)
theorem dJ27_parseLong_2_36 : decode cJ27_parseLong_2 36 = .ok (.invokevirtual 151, 3) := dk_182 0 151 (dk_at dksJ27_parseLong_2_1 13 rfl rfl)
theorem dJ27_parseLong_2_39 : decode cJ27_parseLong_2 39 = .ok (.ldc 154, 2) := dk_18 154 (dk_at dksJ27_parseLong_2_1 16 rfl rfl)
theorem dJ27_parseLong_2_41 : decode cJ27_parseLong_2 41 = .ok (.invokevirtual 61, 3) := dk_182 0 61 (dk_at dksJ27_parseLong_2_1 18 rfl rfl)
theorem dJ27_parseLong_2_44 : decode cJ27_parseLong_2 44 = .ok (.invokevirtual 68, 3) := dk_182 0 68 (dk_at dksJ27_parseLong_2_1 21 rfl rfl)
theorem dJ27_parseLong_2_47 : decode cJ27_parseLong_2 47 = .ok (.invokespecial 146, 3) := dk_183 0 146 (dk_at dksJ27_parseLong_2_2 0 rfl rfl)
theorem dJ27_parseLong_2_50 : decode cJ27_parseLong_2 50 = .ok (.athrow, 1) := dk_191 (dk_at dksJ27_parseLong_2_2 3 rfl rfl)
theorem dJ27_parseLong_2_51 : decode cJ27_parseLong_2 51 = .ok (.iload_n 1, 1) := dk_27 (dk_at dksJ27_parseLong_2_2 4 rfl rfl)
theorem dJ27_parseLong_2_52 : decode cJ27_parseLong_2 52 = .ok (.bipush 36, 2) := dk_16 36 (dk_at dksJ27_parseLong_2_2 5 rfl rfl)
theorem dJ27_parseLong_2_54 : decode cJ27_parseLong_2 54 = .ok (.if_icmp .le 35, 3) := dk_164 0 35 (dk_at dksJ27_parseLong_2_2 7 rfl rfl)
theorem dJ27_parseLong_2_57 : decode cJ27_parseLong_2 57 = .ok (.new 142, 3) := dk_187 0 142 (dk_at dksJ27_parseLong_2_2 10 rfl rfl)
theorem dJ27_parseLong_2_60 : decode cJ27_parseLong_2 60 = .ok (.dup, 1) := dk_89 (dk_at dksJ27_parseLong_2_2 13 rfl rfl)
theorem dJ27_parseLong_2_61 : decode cJ27_parseLong_2 61 = .ok (.new 55, 3) := dk_187 0 55 (dk_at dksJ27_parseLong_2_2 14 rfl rfl)
theorem dJ27_parseLong_2_64 : decode cJ27_parseLong_2 64 = .ok (.dup, 1) := dk_89 (dk_at dksJ27_parseLong_2_2 17 rfl rfl)
theorem dJ27_parseLong_2_65 : decode cJ27_parseLong_2 65 = .ok (.invokespecial 57, 3) := dk_183 0 57 (dk_at dksJ27_parseLong_2_2 18 rfl rfl)
theorem dJ27_parseLong_2_68 : decode cJ27_parseLong_2 68 = .ok (.ldc 149, 2) := dk_18 149 (dk_at dksJ27_parseLong_2_2 21 rfl rfl)
theorem dJ27_parseLong_2_70 : decode cJ27_parseLong_2 70 = .ok (.invokevirtual 61, 3) := dk_182 0 61 (dk_at dksJ27_parseLong_2_3 0 rfl rfl)
theorem dJ27_parseLong_2_73 : decode cJ27_parseLong_2 73 = .ok (.iload_n 1, 1) := dk_27 (dk_at dksJ27_parseLong_2_3 3 rfl rfl)
theorem dJ27_parseLong_2_74 : decode cJ27_parseLong_2 74 = .ok (.invokevirtual 151, 3) := dk_182 0 151 (dk_at dksJ27_parseLong_2_3 4 rfl rfl)
theorem dJ27_parseLong_2_77 : decode cJ27_parseLong_2 77 = .ok (.ldc 156, 2) := dk_18 156 (dk_at dksJ27_parseLong_2_3 7 rfl rfl)
theorem dJ27_parseLong_2_79 : decode cJ27_parseLong_2 79 = .ok (.invokevirtual 61, 3) := dk_182 0 61 (dk_at dksJ27_parseLong_2_3 9 rfl rfl)
theorem dJ27_parseLong_2_82 : decode cJ27_parseLong_2 82 = .ok (.invokevirtual 68, 3) := dk_182 0 68 (dk_at dksJ27_parseLong_2_3 12 rfl rfl)
theorem dJ27_parseLong_2_85 : decode cJ27_parseLong_2 85 = .ok (.invokespecial 146, 3) := dk_183 0 146 (dk_at dksJ27_parseLong_2_3 15 rfl rfl)
theorem dJ27_parseLong_2_88 : decode cJ27_parseLong_2 88 = .ok (.athrow, 1) := dk_191 (dk_at dksJ27_parseLong_2_3 18 rfl rfl)
theorem dJ27_parseLong_2_89 : decode cJ27_parseLong_2 89 = .ok (.iconst 0, 1) := dk_3 (dk_at dksJ27_parseLong_2_3 19 rfl rfl)
theorem dJ27_parseLong_2_90 : decode cJ27_parseLong_2 90 = .ok (.istore_n 2, 1) := dk_61 (dk_at dksJ27_parseLong_2_3 20 rfl rfl)
theorem dJ27_parseLong_2_91 : decode cJ27_parseLong_2 91 = .ok (.iconst 0, 1) := dk_3 (dk_at dksJ27_parseLong_2_3 21 rfl rfl)
theorem dJ27_parseLong_2_92 : decode cJ27_parseLong_2 92 = .ok (.istore_n 3, 1) := dk_62 (dk_at dksJ27_parseLong_2_3 22 rfl rfl)
theorem dJ27_parseLong_2_93 : decode cJ27_parseLong_2 93 = .ok (.aload_n 0, 1) := dk_42 (dk_at dksJ27_parseLong_2_3 23 rfl rfl)
theorem dJ27_parseLong_2_94 : decode cJ27_parseLong_2 94 = .ok (.invokevirtual 158, 3) := dk_182 0 158 (dk_at dksJ27_parseLong_2_4 0 rfl rfl)
theorem dJ27_parseLong_2_97 : decode cJ27_parseLong_2 97 = .ok (.istore 4, 2) := dk_54 4 (dk_at dksJ27_parseLong_2_4 3 rfl rfl)
theorem dJ27_parseLong_2_99 : decode cJ27_parseLong_2 99 = .ok (.ldc2_w 162, 3) := dk_20 0 162 (dk_at dksJ27_parseLong_2_4 5 rfl rfl)
theorem dJ27_parseLong_2_102 : decode cJ27_parseLong_2 102 = .ok (.lstore 5, 2) := dk_55 5 (dk_at dksJ27_parseLong_2_4 8 rfl rfl)
theorem dJ27_parseLong_2_104 : decode cJ27_parseLong_2 104 = .ok (.iload 4, 2) := dk_21 4 (dk_at dksJ27_parseLong_2_4 10 rfl rfl)
theorem dJ27_parseLong_2_106 : decode cJ27_parseLong_2 106 = .ok (.ifCond .le 160, 3) := dk_158 0 160 (dk_at dksJ27_parseLong_2_4 12 rfl rfl)
theorem dJ27_parseLong_2_109 : decode cJ27_parseLong_2 109 = .ok (.aload_n 0, 1) := dk_42 (dk_at dksJ27_parseLong_2_4 15 rfl rfl)
theorem dJ27_parseLong_2_110 : decode cJ27_parseLong_2 110 = .ok (.iconst 0, 1) := dk_3 (dk_at dksJ27_parseLong_2_4 16 rfl rfl)
theorem dJ27_parseLong_2_111 : decode cJ27_parseLong_2 111 = .ok (.invokevirtual 164, 3) := dk_182 0 164 (dk_at dksJ27_parseLong_2_4 17 rfl rfl)
theorem dJ27_parseLong_2_114 : decode cJ27_parseLong_2 114 = .ok (.istore 7, 2) := dk_54 7 (dk_at dksJ27_parseLong_2_4 20 rfl rfl)
theorem dJ27_parseLong_2_116 : decode cJ27_parseLong_2 116 = .ok (.iload 7, 2) := dk_21 7 (dk_at dksJ27_parseLong_2_4 22 rfl rfl)
theorem dJ27_parseLong_2_118 : decode cJ27_parseLong_2 118 = .ok (.bipush 48, 2) := dk_16 48 (dk_at dksJ27_parseLong_2_5 0 rfl rfl)
theorem dJ27_parseLong_2_120 : decode cJ27_parseLong_2 120 = .ok (.if_icmp .ge 48, 3) := dk_162 0 48 (dk_at dksJ27_parseLong_2_5 2 rfl rfl)
theorem dJ27_parseLong_2_123 : decode cJ27_parseLong_2 123 = .ok (.iload 7, 2) := dk_21 7 (dk_at dksJ27_parseLong_2_5 5 rfl rfl)
theorem dJ27_parseLong_2_125 : decode cJ27_parseLong_2 125 = .ok (.bipush 45, 2) := dk_16 45 (dk_at dksJ27_parseLong_2_5 7 rfl rfl)
theorem dJ27_parseLong_2_127 : decode cJ27_parseLong_2 127 = .ok (.if_icmp .ne 13, 3) := dk_160 0 13 (dk_at dksJ27_parseLong_2_5 9 rfl rfl)
theorem dJ27_parseLong_2_130 : decode cJ27_parseLong_2 130 = .ok (.iconst 1, 1) := dk_4 (dk_at dksJ27_parseLong_2_5 12 rfl rfl)
theorem dJ27_parseLong_2_131 : decode cJ27_parseLong_2 131 = .ok (.istore_n 2, 1) := dk_61 (dk_at dksJ27_parseLong_2_5 13 rfl rfl)
theorem dJ27_parseLong_2_132 : decode cJ27_parseLong_2 132 = .ok (.ldc2_w 168, 3) := dk_20 0 168 (dk_at dksJ27_parseLong_2_5 14 rfl rfl)
theorem dJ27_parseLong_2_135 : decode cJ27_parseLong_2 135 = .ok (.lstore 5, 2) := dk_55 5 (dk_at dksJ27_parseLong_2_5 17 rfl rfl)
theorem dJ27_parseLong_2_137 : decode cJ27_parseLong_2 137 = .ok (.goto 16, 3) := dk_167 0 16 (dk_at dksJ27_parseLong_2_5 19 rfl rfl)
theorem dJ27_parseLong_2_140 : decode cJ27_parseLong_2 140 = .ok (.iload 7, 2) := dk_21 7 (dk_at dksJ27_parseLong_2_5 22 rfl rfl)
theorem dJ27_parseLong_2_142 : decode cJ27_parseLong_2 142 = .ok (.bipush 43, 2) := dk_16 43 (dk_at dksJ27_parseLong_2_6 0 rfl rfl)
theorem dJ27_parseLong_2_144 : decode cJ27_parseLong_2 144 = .ok (.if_icmp .eq 9, 3) := dk_159 0 9 (dk_at dksJ27_parseLong_2_6 2 rfl rfl)
theorem dJ27_parseLong_2_147 : decode cJ27_parseLong_2 147 = .ok (.aload_n 0, 1) := dk_42 (dk_at dksJ27_parseLong_2_6 5 rfl rfl)
theorem dJ27_parseLong_2_148 : decode cJ27_parseLong_2 148 = .ok (.iload_n 1, 1) := dk_27 (dk_at dksJ27_parseLong_2_6 6 rfl rfl)
theorem dJ27_parseLong_2_149 : decode cJ27_parseLong_2 149 = .ok (.invokestatic 170, 3) := dk_184 0 170 (dk_at dksJ27_parseLong_2_6 7 rfl rfl)
theorem dJ27_parseLong_2_152 : decode cJ27_parseLong_2 152 = .ok (.athrow, 1) := dk_191 (dk_at dksJ27_parseLong_2_6 10 rfl rfl)
theorem dJ27_parseLong_2_153 : decode cJ27_parseLong_2 153 = .ok (.iload 4, 2) := dk_21 4 (dk_at dksJ27_parseLong_2_6 11 rfl rfl)
theorem dJ27_parseLong_2_155 : decode cJ27_parseLong_2 155 = .ok (.iconst 1, 1) := dk_4 (dk_at dksJ27_parseLong_2_6 13 rfl rfl)
theorem dJ27_parseLong_2_156 : decode cJ27_parseLong_2 156 = .ok (.if_icmp .ne 9, 3) := dk_160 0 9 (dk_at dksJ27_parseLong_2_6 14 rfl rfl)
theorem dJ27_parseLong_2_159 : decode cJ27_parseLong_2 159 = .ok (.aload_n 0, 1) := dk_42 (dk_at dksJ27_parseLong_2_6 17 rfl rfl)
theorem dJ27_parseLong_2_160 : decode cJ27_parseLong_2 160 = .ok (.iload_n 1, 1) := dk_27 (dk_at dksJ27_parseLong_2_6 18 rfl rfl)
theorem dJ27_parseLong_2_161 : decode cJ27_parseLong_2 161 = .ok (.invokestatic 170, 3) := dk_184 0 170 (dk_at dksJ27_parseLong_2_6 19 rfl rfl)
theorem dJ27_parseLong_2_164 : decode cJ27_parseLong_2 164 = .ok (.athrow, 1) := dk_191 (dk_at dksJ27_parseLong_2_6 22 rfl rfl)
theorem dJ27_parseLong_2_165 : decode cJ27_parseLong_2 165 = .ok (.iinc 3 1, 3) := dk_132 3 1 (dk_at dksJ27_parseLong_2_7 0 rfl rfl)
theorem dJ27_parseLong_2_168 : decode cJ27_parseLong_2 168 = .ok (.lload 5, 2) := dk_22 5 (dk_at dksJ27_parseLong_2_7 3 rfl rfl)
theorem dJ27_parseLong_2_170 : decode cJ27_parseLong_2 170 = .ok (.iload_n 1, 1) := dk_27 (dk_at dksJ27_parseLong_2_7 5 rfl rfl)
theorem dJ27_parseLong_2_171 : decode cJ27_parseLong_2 171 = .ok (.i2l, 1) := dk_133 (dk_at dksJ27_parseLong_2_7 6 rfl rfl)
theorem dJ27_parseLong_2_172 : decode cJ27_parseLong_2 172 = .ok (.ldiv, 1) := dk_109 (dk_at dksJ27_parseLong_2_7 7 rfl rfl)
theorem dJ27_parseLong_2_173 : decode cJ27_parseLong_2 173 = .ok (.lstore 8, 2) := dk_55 8 (dk_at dksJ27_parseLong_2_7 8 rfl rfl)
theorem dJ27_parseLong_2_175 : decode cJ27_parseLong_2 175 = .ok (.lconst 0, 1) := dk_9 (dk_at dksJ27_parseLong_2_7 10 rfl rfl)
theorem dJ27_parseLong_2_176 : decode cJ27_parseLong_2 176 = .ok (.lstore 10, 2) := dk_55 10 (dk_at dksJ27_parseLong_2_7 11 rfl rfl)
theorem dJ27_parseLong_2_178 : decode cJ27_parseLong_2 178 = .ok (.iload_n 3, 1) := dk_29 (dk_at dksJ27_parseLong_2_7 13 rfl rfl)
theorem dJ27_parseLong_2_179 : decode cJ27_parseLong_2 179 = .ok (.iload 4, 2) := dk_21 4 (dk_at dksJ27_parseLong_2_7 14 rfl rfl)
theorem dJ27_parseLong_2_181 : decode cJ27_parseLong_2 181 = .ok (.if_icmp .ge 72, 3) := dk_162 0 72 (dk_at dksJ27_parseLong_2_7 16 rfl rfl)
theorem dJ27_parseLong_2_184 : decode cJ27_parseLong_2 184 = .ok (.aload_n 0, 1) := dk_42 (dk_at dksJ27_parseLong_2_7 19 rfl rfl)
theorem dJ27_parseLong_2_185 : decode cJ27_parseLong_2 185 = .ok (.iload_n 3, 1) := dk_29 (dk_at dksJ27_parseLong_2_7 20 rfl rfl)
theorem dJ27_parseLong_2_186 : decode cJ27_parseLong_2 186 = .ok (.iinc 3 1, 3) := dk_132 3 1 (dk_at dksJ27_parseLong_2_7 21 rfl rfl)
theorem dJ27_parseLong_2_189 : decode cJ27_parseLong_2 189 = .ok (.invokevirtual 164, 3) := dk_182 0 164 (dk_at dksJ27_parseLong_2_8 0 rfl rfl)
theorem dJ27_parseLong_2_192 : decode cJ27_parseLong_2 192 = .ok (.iload_n 1, 1) := dk_27 (dk_at dksJ27_parseLong_2_8 3 rfl rfl)
theorem dJ27_parseLong_2_193 : decode cJ27_parseLong_2 193 = .ok (.invokestatic 174, 3) := dk_184 0 174 (dk_at dksJ27_parseLong_2_8 4 rfl rfl)
theorem dJ27_parseLong_2_196 : decode cJ27_parseLong_2 196 = .ok (.istore 12, 2) := dk_54 12 (dk_at dksJ27_parseLong_2_8 7 rfl rfl)
theorem dJ27_parseLong_2_198 : decode cJ27_parseLong_2 198 = .ok (.iload 12, 2) := dk_21 12 (dk_at dksJ27_parseLong_2_8 9 rfl rfl)
theorem dJ27_parseLong_2_200 : decode cJ27_parseLong_2 200 = .ok (.ifCond .lt 11, 3) := dk_155 0 11 (dk_at dksJ27_parseLong_2_8 11 rfl rfl)
theorem dJ27_parseLong_2_203 : decode cJ27_parseLong_2 203 = .ok (.lload 10, 2) := dk_22 10 (dk_at dksJ27_parseLong_2_8 14 rfl rfl)
theorem dJ27_parseLong_2_205 : decode cJ27_parseLong_2 205 = .ok (.lload 8, 2) := dk_22 8 (dk_at dksJ27_parseLong_2_8 16 rfl rfl)
theorem dJ27_parseLong_2_207 : decode cJ27_parseLong_2 207 = .ok (.lcmp, 1) := dk_148 (dk_at dksJ27_parseLong_2_8 18 rfl rfl)
theorem dJ27_parseLong_2_208 : decode cJ27_parseLong_2 208 = .ok (.ifCond .ge 9, 3) := dk_156 0 9 (dk_at dksJ27_parseLong_2_8 19 rfl rfl)
theorem dJ27_parseLong_2_211 : decode cJ27_parseLong_2 211 = .ok (.aload_n 0, 1) := dk_42 (dk_at dksJ27_parseLong_2_8 22 rfl rfl)
theorem dJ27_parseLong_2_212 : decode cJ27_parseLong_2 212 = .ok (.iload_n 1, 1) := dk_27 (dk_at dksJ27_parseLong_2_8 23 rfl rfl)
theorem dJ27_parseLong_2_213 : decode cJ27_parseLong_2 213 = .ok (.invokestatic 170, 3) := dk_184 0 170 (dk_at dksJ27_parseLong_2_9 0 rfl rfl)
theorem dJ27_parseLong_2_216 : decode cJ27_parseLong_2 216 = .ok (.athrow, 1) := dk_191 (dk_at dksJ27_parseLong_2_9 3 rfl rfl)
theorem dJ27_parseLong_2_217 : decode cJ27_parseLong_2 217 = .ok (.lload 10, 2) := dk_22 10 (dk_at dksJ27_parseLong_2_9 4 rfl rfl)
theorem dJ27_parseLong_2_219 : decode cJ27_parseLong_2 219 = .ok (.iload_n 1, 1) := dk_27 (dk_at dksJ27_parseLong_2_9 6 rfl rfl)
theorem dJ27_parseLong_2_220 : decode cJ27_parseLong_2 220 = .ok (.i2l, 1) := dk_133 (dk_at dksJ27_parseLong_2_9 7 rfl rfl)
theorem dJ27_parseLong_2_221 : decode cJ27_parseLong_2 221 = .ok (.lmul, 1) := dk_105 (dk_at dksJ27_parseLong_2_9 8 rfl rfl)
theorem dJ27_parseLong_2_222 : decode cJ27_parseLong_2 222 = .ok (.lstore 10, 2) := dk_55 10 (dk_at dksJ27_parseLong_2_9 9 rfl rfl)
theorem dJ27_parseLong_2_224 : decode cJ27_parseLong_2 224 = .ok (.lload 10, 2) := dk_22 10 (dk_at dksJ27_parseLong_2_9 11 rfl rfl)
theorem dJ27_parseLong_2_226 : decode cJ27_parseLong_2 226 = .ok (.lload 5, 2) := dk_22 5 (dk_at dksJ27_parseLong_2_9 13 rfl rfl)
theorem dJ27_parseLong_2_228 : decode cJ27_parseLong_2 228 = .ok (.iload 12, 2) := dk_21 12 (dk_at dksJ27_parseLong_2_9 15 rfl rfl)
theorem dJ27_parseLong_2_230 : decode cJ27_parseLong_2 230 = .ok (.i2l, 1) := dk_133 (dk_at dksJ27_parseLong_2_9 17 rfl rfl)
theorem dJ27_parseLong_2_231 : decode cJ27_parseLong_2 231 = .ok (.ladd, 1) := dk_97 (dk_at dksJ27_parseLong_2_9 18 rfl rfl)
theorem dJ27_parseLong_2_232 : decode cJ27_parseLong_2 232 = .ok (.lcmp, 1) := dk_148 (dk_at dksJ27_parseLong_2_9 19 rfl rfl)
theorem dJ27_parseLong_2_233 : decode cJ27_parseLong_2 233 = .ok (.ifCond .ge 9, 3) := dk_156 0 9 (dk_at dksJ27_parseLong_2_9 20 rfl rfl)
theorem dJ27_parseLong_2_236 : decode cJ27_parseLong_2 236 = .ok (.aload_n 0, 1) := dk_42 (dk_at dksJ27_parseLong_2_9 23 rfl rfl)
theorem dJ27_parseLong_2_237 : decode cJ27_parseLong_2 237 = .ok (.iload_n 1, 1) := dk_27 (dk_at dksJ27_parseLong_2_10 0 rfl rfl)
theorem dJ27_parseLong_2_238 : decode cJ27_parseLong_2 238 = .ok (.invokestatic 170, 3) := dk_184 0 170 (dk_at dksJ27_parseLong_2_10 1 rfl rfl)
theorem dJ27_parseLong_2_241 : decode cJ27_parseLong_2 241 = .ok (.athrow, 1) := dk_191 (dk_at dksJ27_parseLong_2_10 4 rfl rfl)
theorem dJ27_parseLong_2_242 : decode cJ27_parseLong_2 242 = .ok (.lload 10, 2) := dk_22 10 (dk_at dksJ27_parseLong_2_10 5 rfl rfl)
theorem dJ27_parseLong_2_244 : decode cJ27_parseLong_2 244 = .ok (.iload 12, 2) := dk_21 12 (dk_at dksJ27_parseLong_2_10 7 rfl rfl)
theorem dJ27_parseLong_2_246 : decode cJ27_parseLong_2 246 = .ok (.i2l, 1) := dk_133 (dk_at dksJ27_parseLong_2_10 9 rfl rfl)
theorem dJ27_parseLong_2_247 : decode cJ27_parseLong_2 247 = .ok (.lsub, 1) := dk_101 (dk_at dksJ27_parseLong_2_10 10 rfl rfl)
theorem dJ27_parseLong_2_248 : decode cJ27_parseLong_2 248 = .ok (.lstore 10, 2) := dk_55 10 (dk_at dksJ27_parseLong_2_10 11 rfl rfl)
theorem dJ27_parseLong_2_250 : decode cJ27_parseLong_2 250 = .ok (.goto (-72), 3) := dk_167 255 184 (dk_at dksJ27_parseLong_2_10 13 rfl rfl)
theorem dJ27_parseLong_2_253 : decode cJ27_parseLong_2 253 = .ok (.iload_n 2, 1) := dk_28 (dk_at dksJ27_parseLong_2_10 16 rfl rfl)
theorem dJ27_parseLong_2_254 : decode cJ27_parseLong_2 254 = .ok (.ifCond .eq 8, 3) := dk_153 0 8 (dk_at dksJ27_parseLong_2_10 17 rfl rfl)
theorem dJ27_parseLong_2_257 : decode cJ27_parseLong_2 257 = .ok (.lload 10, 2) := dk_22 10 (dk_at dksJ27_parseLong_2_10 20 rfl rfl)
theorem dJ27_parseLong_2_259 : decode cJ27_parseLong_2 259 = .ok (.goto 6, 3) := dk_167 0 6 (dk_at dksJ27_parseLong_2_11 0 rfl rfl)
theorem dJ27_parseLong_2_262 : decode cJ27_parseLong_2 262 = .ok (.lload 10, 2) := dk_22 10 (dk_at dksJ27_parseLong_2_11 3 rfl rfl)
theorem dJ27_parseLong_2_264 : decode cJ27_parseLong_2 264 = .ok (.lneg, 1) := dk_117 (dk_at dksJ27_parseLong_2_11 5 rfl rfl)
theorem dJ27_parseLong_2_265 : decode cJ27_parseLong_2 265 = .ok (.lreturn, 1) := dk_173 (dk_at dksJ27_parseLong_2_11 6 rfl rfl)
theorem dJ27_parseLong_2_266 : decode cJ27_parseLong_2 266 = .ok (.aload_n 0, 1) := dk_42 (dk_at dksJ27_parseLong_2_11 7 rfl rfl)
theorem dJ27_parseLong_2_267 : decode cJ27_parseLong_2 267 = .ok (.iload_n 1, 1) := dk_27 (dk_at dksJ27_parseLong_2_11 8 rfl rfl)
theorem dJ27_parseLong_2_268 : decode cJ27_parseLong_2 268 = .ok (.invokestatic 170, 3) := dk_184 0 170 (dk_at dksJ27_parseLong_2_11 9 rfl rfl)
theorem dJ27_parseLong_2_271 : decode cJ27_parseLong_2 271 = .ok (.athrow, 1) := dk_191 (dk_at dksJ27_parseLong_2_11 12 rfl rfl)
theorem q69 : (Jvm.Cond.initialized "java/lang/Long") ∈ lw_all := lw_g (lw_at lw_m1 30 rfl) rfl
theorem q1013 : (Jvm.Cond.static ({ cls := "java/lang/Long", name := "stringSize", desc := "(J)I" } : Jvm.MethodName)) ∈ lw_all := lw_g (lw_at lw_m5 14 rfl) rfl
theorem q1014 : (Jvm.Cond.code ({ cls := "java/lang/Long", name := "stringSize", desc := "(J)I" } : Jvm.MethodName) prog_20_method_15_code (6 : Nat) (Option.some Jvm.ClassFile.FieldType.int)) ∈ lw_all := lw_g (lw_at lw_m5 15 rfl) rfl
theorem q1015 : (Jvm.Cond.constantLong "java/lang/Long" (140 : Nat) (-10 : Int64)) ∈ lw_all := lw_g (lw_at lw_m5 16 rfl) rfl
theorem q1016 : (Jvm.Cond.constantLong "java/lang/Long" (53 : Nat) (10 : Int64)) ∈ lw_all := lw_g (lw_at lw_m5 17 rfl) rfl
theorem q1018 : (Jvm.Cond.static ({ cls := "java/lang/Long", name := "getChars", desc := "(JI[B)I" } : Jvm.MethodName)) ∈ lw_all := lw_g (lw_at lw_m5 19 rfl) rfl
theorem q1019 : (Jvm.Cond.code ({ cls := "java/lang/Long", name := "getChars", desc := "(JI[B)I" } : Jvm.MethodName) prog_20_method_14_code (11 : Nat) (Option.some Jvm.ClassFile.FieldType.int)) ∈ lw_all := lw_g (lw_at lw_m5 20 rfl) rfl
theorem q1020 : (Jvm.Cond.constantLong "java/lang/Long" (129 : Nat) (-2147483648 : Int64)) ∈ lw_all := lw_g (lw_at lw_m5 21 rfl) rfl
theorem q1021 : (Jvm.Cond.constantLong "java/lang/Long" (131 : Nat) (100 : Int64)) ∈ lw_all := lw_g (lw_at lw_m5 22 rfl) rfl
theorem q1022 : (Jvm.Cond.fieldLink "java/lang/Long" (133 : Nat) "java/lang/Integer" "DigitOnes" "[B") ∈ lw_all := lw_g (lw_at lw_m5 23 rfl) rfl
theorem q1023 : (Jvm.Cond.fieldLink "java/lang/Long" (137 : Nat) "java/lang/Integer" "DigitTens" "[B") ∈ lw_all := lw_g (lw_at lw_m5 24 rfl) rfl
theorem q1111 : (Jvm.Cond.static ({ cls := "java/lang/Long", name := "parseLong", desc := "(Ljava/lang/String;)J" } : Jvm.MethodName)) ∈ lw_all := lw_g (lw_at lw_m5 112 rfl) rfl
theorem q1112 : (Jvm.Cond.code ({ cls := "java/lang/Long", name := "parseLong", desc := "(Ljava/lang/String;)J" } : Jvm.MethodName) prog_20_method_18_code (1 : Nat) (Option.some Jvm.ClassFile.FieldType.long)) ∈ lw_all := lw_g (lw_at lw_m5 113 rfl) rfl
theorem q1113 : (Jvm.Cond.methodLink "java/lang/Long" (198 : Nat) ({ cls := "java/lang/Long", name := "parseLong", desc := "(Ljava/lang/String;I)J" } : Jvm.MethodName)) ∈ lw_all := lw_g (lw_at lw_m5 114 rfl) rfl
theorem q1114 : (Jvm.Cond.static ({ cls := "java/lang/Long", name := "parseLong", desc := "(Ljava/lang/String;I)J" } : Jvm.MethodName)) ∈ lw_all := lw_g (lw_at lw_m5 115 rfl) rfl
theorem q1115 : (Jvm.Cond.code ({ cls := "java/lang/Long", name := "parseLong", desc := "(Ljava/lang/String;I)J" } : Jvm.MethodName) prog_20_method_16_code (13 : Nat) (Option.some Jvm.ClassFile.FieldType.long)) ∈ lw_all := lw_g (lw_at lw_m5 116 rfl) rfl
theorem q1116 : (Jvm.Cond.classLink "java/lang/Long" (142 : Nat) "java/lang/NumberFormatException") ∈ lw_all := lw_g (lw_at lw_m5 117 rfl) rfl
theorem q1127 : (Jvm.Cond.stringRef "java/lang/Long" (144 : Nat) "Cannot parse null string") ∈ lw_tbl := lw_at lw_m5 128 rfl
theorem q1128 : (Jvm.Cond.methodLink "java/lang/Long" (146 : Nat) ({ cls := "java/lang/NumberFormatException", name := "<init>", desc := "(Ljava/lang/String;)V" } : Jvm.MethodName)) ∈ lw_all := lw_g (lw_at lw_m5 129 rfl) rfl
theorem q1134 : (Jvm.Cond.classLink "java/lang/Long" (55 : Nat) "java/lang/StringBuilder") ∈ lw_all := lw_g (lw_at lw_m5 135 rfl) rfl
theorem q1135 : (Jvm.Cond.methodLink "java/lang/Long" (57 : Nat) ({ cls := "java/lang/StringBuilder", name := "<init>", desc := "()V" } : Jvm.MethodName)) ∈ lw_all := lw_g (lw_at lw_m5 136 rfl) rfl
theorem q1136 : (Jvm.Cond.stringRef "java/lang/Long" (149 : Nat) "radix ") ∈ lw_tbl := lw_at lw_m5 137 rfl
theorem q1137 : (Jvm.Cond.methodLink "java/lang/Long" (61 : Nat) ({ cls := "java/lang/StringBuilder", name := "append", desc := "(Ljava/lang/String;)Ljava/lang/StringBuilder;" } : Jvm.MethodName)) ∈ lw_all := lw_g (lw_at lw_m5 138 rfl) rfl
theorem q1138 : (Jvm.Cond.methodLink "java/lang/Long" (151 : Nat) ({ cls := "java/lang/StringBuilder", name := "append", desc := "(I)Ljava/lang/StringBuilder;" } : Jvm.MethodName)) ∈ lw_all := lw_g (lw_at lw_m5 139 rfl) rfl
theorem q1139 : (Jvm.Cond.stringRef "java/lang/Long" (154 : Nat) " less than Character.MIN_RADIX") ∈ lw_tbl := lw_at lw_m5 140 rfl
theorem q1140 : (Jvm.Cond.methodLink "java/lang/Long" (68 : Nat) ({ cls := "java/lang/StringBuilder", name := "toString", desc := "()Ljava/lang/String;" } : Jvm.MethodName)) ∈ lw_all := lw_g (lw_at lw_m5 141 rfl) rfl
theorem q1141 : (Jvm.Cond.stringRef "java/lang/Long" (156 : Nat) " greater than Character.MAX_RADIX") ∈ lw_tbl := lw_at lw_m5 142 rfl
theorem q1142 : (Jvm.Cond.methodLink "java/lang/Long" (158 : Nat) ({ cls := "java/lang/String", name := "length", desc := "()I" } : Jvm.MethodName)) ∈ lw_all := lw_g (lw_at lw_m5 143 rfl) rfl
theorem q1143 : (Jvm.Cond.constantLong "java/lang/Long" (162 : Nat) (-9223372036854775807 : Int64)) ∈ lw_all := lw_g (lw_at lw_m5 144 rfl) rfl
theorem q1144 : (Jvm.Cond.methodLink "java/lang/Long" (164 : Nat) ({ cls := "java/lang/String", name := "charAt", desc := "(I)C" } : Jvm.MethodName)) ∈ lw_all := lw_g (lw_at lw_m5 145 rfl) rfl
theorem q1155 : (Jvm.Cond.constantLong "java/lang/Long" (168 : Nat) (-9223372036854775808 : Int64)) ∈ lw_all := lw_g (lw_at lw_m5 156 rfl) rfl
theorem q1156 : (Jvm.Cond.methodLink "java/lang/Long" (170 : Nat) ({ cls := "java/lang/NumberFormatException", name := "forInputString", desc := "(Ljava/lang/String;I)Ljava/lang/NumberFormatException;" } : Jvm.MethodName)) ∈ lw_all := lw_g (lw_at lw_m5 157 rfl) rfl
theorem q1170 : (Jvm.Cond.methodLink "java/lang/Long" (174 : Nat) ({ cls := "java/lang/Character", name := "digit", desc := "(CI)I" } : Jvm.MethodName)) ∈ lw_all := lw_g (lw_at lw_m5 171 rfl) rfl
/-! java/lang/Character -/
set_option maxRecDepth 100000
def RJ28 : String := "java/lang/Character"
abbrev cJ28_isValidCodePoint : ByteArray := prog_5_method_11_code
def yJ28_isValidCodePoint : MethodName := ⟨RJ28, "isValidCodePoint", "(I)Z"⟩
def dkwJ28_isValidCodePoint_0 : List UInt8 := [26, 16, 16, 124, 60, 27, 16, 17, 162, 0, 7, 4, 167, 0, 4, 3, 172]
abbrev dktJ28_isValidCodePoint_0 : List UInt8 := dkwJ28_isValidCodePoint_0 ++ []
theorem dksJ28_isValidCodePoint_0 : cJ28_isValidCodePoint.data.toList.drop 0 = dktJ28_isValidCodePoint_0 := by decide +kernel
theorem dJ28_isValidCodePoint_0 : decode cJ28_isValidCodePoint 0 = .ok (.iload_n 0, 1) := dk_26 (dk_at dksJ28_isValidCodePoint_0 0 rfl rfl)
theorem dJ28_isValidCodePoint_1 : decode cJ28_isValidCodePoint 1 = .ok (.bipush 16, 2) := dk_16 16 (dk_at dksJ28_isValidCodePoint_0 1 rfl rfl)
theorem dJ28_isValidCodePoint_3 : decode cJ28_isValidCodePoint 3 = .ok (.iushr, 1) := dk_124 (dk_at dksJ28_isValidCodePoint_0 3 rfl rfl)
theorem dJ28_isValidCodePoint_4 : decode cJ28_isValidCodePoint 4 = .ok (.istore_n 1, 1) := dk_60 (dk_at dksJ28_isValidCodePoint_0 4 rfl rfl)
theorem dJ28_isValidCodePoint_5 : decode cJ28_isValidCodePoint 5 = .ok (.iload_n 1, 1) := dk_27 (dk_at dksJ28_isValidCodePoint_0 5 rfl rfl)
theorem dJ28_isValidCodePoint_6 : decode cJ28_isValidCodePoint 6 = .ok (.bipush 17, 2) := dk_16 17 (dk_at dksJ28_isValidCodePoint_0 6 rfl rfl)
theorem dJ28_isValidCodePoint_8 : decode cJ28_isValidCodePoint 8 = .ok (.if_icmp .ge 7, 3) := dk_162 0 7 (dk_at dksJ28_isValidCodePoint_0 8 rfl rfl)
theorem dJ28_isValidCodePoint_11 : decode cJ28_isValidCodePoint 11 = .ok (.iconst 1, 1) := dk_4 (dk_at dksJ28_isValidCodePoint_0 11 rfl rfl)
theorem dJ28_isValidCodePoint_12 : decode cJ28_isValidCodePoint 12 = .ok (.goto 4, 3) := dk_167 0 4 (dk_at dksJ28_isValidCodePoint_0 12 rfl rfl)
theorem dJ28_isValidCodePoint_15 : decode cJ28_isValidCodePoint 15 = .ok (.iconst 0, 1) := dk_3 (dk_at dksJ28_isValidCodePoint_0 15 rfl rfl)
theorem dJ28_isValidCodePoint_16 : decode cJ28_isValidCodePoint 16 = .ok (.ireturn, 1) := dk_172 (dk_at dksJ28_isValidCodePoint_0 16 rfl rfl)
abbrev cJ28_highSurrogate : ByteArray := prog_5_method_28_code
def yJ28_highSurrogate : MethodName := ⟨RJ28, "highSurrogate", "(I)C"⟩
def dkwJ28_highSurrogate_0 : List UInt8 := [26, 16, 10, 124, 18, 110, 96, 146, 172]
abbrev dktJ28_highSurrogate_0 : List UInt8 := dkwJ28_highSurrogate_0 ++ []
theorem dksJ28_highSurrogate_0 : cJ28_highSurrogate.data.toList.drop 0 = dktJ28_highSurrogate_0 := by decide +kernel
theorem dJ28_highSurrogate_0 : decode cJ28_highSurrogate 0 = .ok (.iload_n 0, 1) := dk_26 (dk_at dksJ28_highSurrogate_0 0 rfl rfl)
theorem dJ28_highSurrogate_1 : decode cJ28_highSurrogate 1 = .ok (.bipush 10, 2) := dk_16 10 (dk_at dksJ28_highSurrogate_0 1 rfl rfl)
theorem dJ28_highSurrogate_3 : decode cJ28_highSurrogate 3 = .ok (.iushr, 1) := dk_124 (dk_at dksJ28_highSurrogate_0 3 rfl rfl)
theorem dJ28_highSurrogate_4 : decode cJ28_highSurrogate 4 = .ok (.ldc 110, 2) := dk_18 110 (dk_at dksJ28_highSurrogate_0 4 rfl rfl)
theorem dJ28_highSurrogate_6 : decode cJ28_highSurrogate 6 = .ok (.iadd, 1) := dk_96 (dk_at dksJ28_highSurrogate_0 6 rfl rfl)
theorem dJ28_highSurrogate_7 : decode cJ28_highSurrogate 7 = .ok (.i2c, 1) := dk_146 (dk_at dksJ28_highSurrogate_0 7 rfl rfl)
theorem dJ28_highSurrogate_8 : decode cJ28_highSurrogate 8 = .ok (.ireturn, 1) := dk_172 (dk_at dksJ28_highSurrogate_0 8 rfl rfl)
abbrev cJ28_lowSurrogate : ByteArray := prog_5_method_29_code
def yJ28_lowSurrogate : MethodName := ⟨RJ28, "lowSurrogate", "(I)C"⟩
def dkwJ28_lowSurrogate_0 : List UInt8 := [26, 17, 3, 255, 126, 18, 76, 96, 146, 172]
abbrev dktJ28_lowSurrogate_0 : List UInt8 := dkwJ28_lowSurrogate_0 ++ []
theorem dksJ28_lowSurrogate_0 : cJ28_lowSurrogate.data.toList.drop 0 = dktJ28_lowSurrogate_0 := by decide +kernel
theorem dJ28_lowSurrogate_0 : decode cJ28_lowSurrogate 0 = .ok (.iload_n 0, 1) := dk_26 (dk_at dksJ28_lowSurrogate_0 0 rfl rfl)
theorem dJ28_lowSurrogate_1 : decode cJ28_lowSurrogate 1 = .ok (.sipush 1023, 3) := dk_17 3 255 (dk_at dksJ28_lowSurrogate_0 1 rfl rfl)
theorem dJ28_lowSurrogate_4 : decode cJ28_lowSurrogate 4 = .ok (.iand, 1) := dk_126 (dk_at dksJ28_lowSurrogate_0 4 rfl rfl)
theorem dJ28_lowSurrogate_5 : decode cJ28_lowSurrogate 5 = .ok (.ldc 76, 2) := dk_18 76 (dk_at dksJ28_lowSurrogate_0 5 rfl rfl)
theorem dJ28_lowSurrogate_7 : decode cJ28_lowSurrogate 7 = .ok (.iadd, 1) := dk_96 (dk_at dksJ28_lowSurrogate_0 7 rfl rfl)
theorem dJ28_lowSurrogate_8 : decode cJ28_lowSurrogate 8 = .ok (.i2c, 1) := dk_146 (dk_at dksJ28_lowSurrogate_0 8 rfl rfl)
theorem dJ28_lowSurrogate_9 : decode cJ28_lowSurrogate 9 = .ok (.ireturn, 1) := dk_172 (dk_at dksJ28_lowSurrogate_0 9 rfl rfl)
abbrev cJ28_digit : ByteArray := prog_5_method_79_code
def yJ28_digit : MethodName := ⟨RJ28, "digit", "(CI)I"⟩
def dkwJ28_digit_0 : List UInt8 := [26, 27, 184, 0, 248, 172]
abbrev dktJ28_digit_0 : List UInt8 := dkwJ28_digit_0 ++ []
theorem dksJ28_digit_0 : cJ28_digit.data.toList.drop 0 = dktJ28_digit_0 := by decide +kernel
theorem dJ28_digit_0 : decode cJ28_digit 0 = .ok (.iload_n 0, 1) := dk_26 (dk_at dksJ28_digit_0 0 rfl rfl)
theorem dJ28_digit_1 : decode cJ28_digit 1 = .ok (.iload_n 1, 1) := dk_27 (dk_at dksJ28_digit_0 1 rfl rfl)
theorem dJ28_digit_2 : decode cJ28_digit 2 = .ok (.invokestatic 248, 3) := dk_184 0 248 (dk_at dksJ28_digit_0 2 rfl rfl)
theorem dJ28_digit_5 : decode cJ28_digit 5 = .ok (.ireturn, 1) := dk_172 (dk_at dksJ28_digit_0 5 rfl rfl)
abbrev cJ28_digit_2 : ByteArray := prog_5_method_80_code
def yJ28_digit_2 : MethodName := ⟨RJ28, "digit", "(II)I"⟩
def dkwJ28_digit_2_0 : List UInt8 := [26, 184, 0, 158, 26, 27, 182, 0, 252, 172]
abbrev dktJ28_digit_2_0 : List UInt8 := dkwJ28_digit_2_0 ++ []
theorem dksJ28_digit_2_0 : cJ28_digit_2.data.toList.drop 0 = dktJ28_digit_2_0 := by decide +kernel
theorem dJ28_digit_2_0 : decode cJ28_digit_2 0 = .ok (.iload_n 0, 1) := dk_26 (dk_at dksJ28_digit_2_0 0 rfl rfl)
theorem dJ28_digit_2_1 : decode cJ28_digit_2 1 = .ok (.invokestatic 158, 3) := dk_184 0 158 (dk_at dksJ28_digit_2_0 1 rfl rfl)
theorem dJ28_digit_2_4 : decode cJ28_digit_2 4 = .ok (.iload_n 0, 1) := dk_26 (dk_at dksJ28_digit_2_0 4 rfl rfl)
theorem dJ28_digit_2_5 : decode cJ28_digit_2 5 = .ok (.iload_n 1, 1) := dk_27 (dk_at dksJ28_digit_2_0 5 rfl rfl)
theorem dJ28_digit_2_6 : decode cJ28_digit_2 6 = .ok (.invokevirtual 252, 3) := dk_182 0 252 (dk_at dksJ28_digit_2_0 6 rfl rfl)
theorem dJ28_digit_2_9 : decode cJ28_digit_2 9 = .ok (.ireturn, 1) := dk_172 (dk_at dksJ28_digit_2_0 9 rfl rfl)
theorem q70 : (Jvm.Cond.initialized "java/lang/Character") ∈ lw_all := lw_g (lw_at lw_m1 31 rfl) rfl
theorem q1072 : (Jvm.Cond.static ({ cls := "java/lang/Character", name := "isValidCodePoint", desc := "(I)Z" } : Jvm.MethodName)) ∈ lw_all := lw_g (lw_at lw_m5 73 rfl) rfl
theorem q1073 : (Jvm.Cond.code ({ cls := "java/lang/Character", name := "isValidCodePoint", desc := "(I)Z" } : Jvm.MethodName) prog_5_method_11_code (2 : Nat) (Option.some Jvm.ClassFile.FieldType.boolean)) ∈ lw_all := lw_g (lw_at lw_m5 74 rfl) rfl
theorem q1075 : (Jvm.Cond.static ({ cls := "java/lang/Character", name := "highSurrogate", desc := "(I)C" } : Jvm.MethodName)) ∈ lw_all := lw_g (lw_at lw_m5 76 rfl) rfl
theorem q1076 : (Jvm.Cond.code ({ cls := "java/lang/Character", name := "highSurrogate", desc := "(I)C" } : Jvm.MethodName) prog_5_method_28_code (1 : Nat) (Option.some Jvm.ClassFile.FieldType.char)) ∈ lw_all := lw_g (lw_at lw_m5 77 rfl) rfl
theorem q1077 : (Jvm.Cond.constant "java/lang/Character" (110 : Nat) (55232 : Int32)) ∈ lw_all := lw_g (lw_at lw_m5 78 rfl) rfl
theorem q1079 : (Jvm.Cond.static ({ cls := "java/lang/Character", name := "lowSurrogate", desc := "(I)C" } : Jvm.MethodName)) ∈ lw_all := lw_g (lw_at lw_m5 80 rfl) rfl
theorem q1080 : (Jvm.Cond.code ({ cls := "java/lang/Character", name := "lowSurrogate", desc := "(I)C" } : Jvm.MethodName) prog_5_method_29_code (1 : Nat) (Option.some Jvm.ClassFile.FieldType.char)) ∈ lw_all := lw_g (lw_at lw_m5 81 rfl) rfl
theorem q1081 : (Jvm.Cond.constant "java/lang/Character" (76 : Nat) (56320 : Int32)) ∈ lw_all := lw_g (lw_at lw_m5 82 rfl) rfl
theorem q1171 : (Jvm.Cond.static ({ cls := "java/lang/Character", name := "digit", desc := "(CI)I" } : Jvm.MethodName)) ∈ lw_all := lw_g (lw_at lw_m5 172 rfl) rfl
theorem q1172 : (Jvm.Cond.code ({ cls := "java/lang/Character", name := "digit", desc := "(CI)I" } : Jvm.MethodName) prog_5_method_79_code (2 : Nat) (Option.some Jvm.ClassFile.FieldType.int)) ∈ lw_all := lw_g (lw_at lw_m5 173 rfl) rfl
theorem q1173 : (Jvm.Cond.methodLink "java/lang/Character" (248 : Nat) ({ cls := "java/lang/Character", name := "digit", desc := "(II)I" } : Jvm.MethodName)) ∈ lw_all := lw_g (lw_at lw_m5 174 rfl) rfl
theorem q1174 : (Jvm.Cond.static ({ cls := "java/lang/Character", name := "digit", desc := "(II)I" } : Jvm.MethodName)) ∈ lw_all := lw_g (lw_at lw_m5 175 rfl) rfl
theorem q1175 : (Jvm.Cond.code ({ cls := "java/lang/Character", name := "digit", desc := "(II)I" } : Jvm.MethodName) prog_5_method_80_code (2 : Nat) (Option.some Jvm.ClassFile.FieldType.int)) ∈ lw_all := lw_g (lw_at lw_m5 176 rfl) rfl
theorem q1176 : (Jvm.Cond.methodLink "java/lang/Character" (158 : Nat) ({ cls := "java/lang/CharacterData", name := "of", desc := "(I)Ljava/lang/CharacterData;" } : Jvm.MethodName)) ∈ lw_all := lw_g (lw_at lw_m5 177 rfl) rfl
theorem q1181 : (Jvm.Cond.methodLink "java/lang/Character" (252 : Nat) ({ cls := "java/lang/CharacterData", name := "digit", desc := "(II)I" } : Jvm.MethodName)) ∈ lw_all := lw_g (lw_at lw_m5 182 rfl) rfl
/-! java/lang/NumberFormatException -/
set_option maxRecDepth 100000
def RJ29 : String := "java/lang/NumberFormatException"
def TJ29 : u_T := fun k => match k with
  | 0 => ("java/lang/Throwable", "cause", "Ljava/lang/Throwable;", false)
  | 1 => ("java/lang/Throwable", "stackTrace", "[Ljava/lang/StackTraceElement;", false)
  | 2 => ("java/lang/Throwable", "suppressedExceptions", "Ljava/util/List;", false)
  | 3 => ("java/lang/Throwable", "detailMessage", "Ljava/lang/String;", false)
  | 4 => ("java/lang/Throwable", "backtrace", "Ljava/lang/Object;", false)
  | _ => ("java/lang/Throwable", "depth", "I", false)
def tyJ29 : Nat → FieldType := fun k => match k with
  | 0 => .object "java/lang/Throwable"
  | 1 => .array (.object "java/lang/StackTraceElement")
  | 2 => .object "java/util/List"
  | 3 => .object "java/lang/String"
  | 4 => .object "java/lang/Object"
  | _ => .int
abbrev wsJ290 : List Cond := u_ws RJ29 TJ29 6
theorem nmJ29 : ∀ a, a < 6 → ∀ b, b < 6 → a ≠ b → (TJ29 a).2.1 ≠ (TJ29 b).2.1 := by decide +kernel
theorem tyJ29_ok : ∀ k, k < 6 → parseFieldDescriptor (TJ29 k).2.2.1 = some (tyJ29 k) := by decide +kernel
abbrev cJ29_init : ByteArray := prog_23_method_2_code
def yJ29_init : MethodName := ⟨RJ29, "<init>", "(Ljava/lang/String;)V"⟩
def dkwJ29_init_0 : List UInt8 := [42, 43, 183, 0, 7, 177]
abbrev dktJ29_init_0 : List UInt8 := dkwJ29_init_0 ++ []
theorem dksJ29_init_0 : cJ29_init.data.toList.drop 0 = dktJ29_init_0 := by decide +kernel
theorem dJ29_init_0 : decode cJ29_init 0 = .ok (.aload_n 0, 1) := dk_42 (dk_at dksJ29_init_0 0 rfl rfl)
theorem dJ29_init_1 : decode cJ29_init 1 = .ok (.aload_n 1, 1) := dk_43 (dk_at dksJ29_init_0 1 rfl rfl)
theorem dJ29_init_2 : decode cJ29_init 2 = .ok (.invokespecial 7, 3) := dk_183 0 7 (dk_at dksJ29_init_0 2 rfl rfl)
theorem dJ29_init_5 : decode cJ29_init 5 = .ok (.return_, 1) := dk_177 (dk_at dksJ29_init_0 5 rfl rfl)
abbrev cJ29_forInputString : ByteArray := prog_23_method_3_code
def yJ29_forInputString : MethodName := ⟨RJ29, "forInputString", "(Ljava/lang/String;I)Ljava/lang/NumberFormatException;"⟩
def dkwJ29_forInputString_2 : List UInt8 := [182, 0, 17, 27, 182, 0, 27, 182, 0, 30, 182, 0, 17, 182, 0, 30, 183, 0, 34, 176]
abbrev dktJ29_forInputString_2 : List UInt8 := dkwJ29_forInputString_2 ++ []
def dkwJ29_forInputString_1 : List UInt8 := [182, 0, 17, 27, 16, 10, 160, 0, 8, 18, 23, 167, 0, 22, 187, 0, 12, 89, 183, 0, 14, 18, 25]
abbrev dktJ29_forInputString_1 : List UInt8 := dkwJ29_forInputString_1 ++ dktJ29_forInputString_2
def dkwJ29_forInputString_0 : List UInt8 := [187, 0, 10, 89, 187, 0, 12, 89, 183, 0, 14, 18, 15, 182, 0, 17, 42, 182, 0, 17, 18, 21]
abbrev dktJ29_forInputString_0 : List UInt8 := dkwJ29_forInputString_0 ++ dktJ29_forInputString_1
theorem dksJ29_forInputString_0 : cJ29_forInputString.data.toList.drop 0 = dktJ29_forInputString_0 := by decide +kernel
theorem dksJ29_forInputString_1 : cJ29_forInputString.data.toList.drop 22 = dktJ29_forInputString_1 := dk_seg dksJ29_forInputString_0 22 rfl rfl
theorem dksJ29_forInputString_2 : cJ29_forInputString.data.toList.drop 45 = dktJ29_forInputString_2 := dk_seg dksJ29_forInputString_1 23 rfl rfl
theorem dJ29_forInputString_0 : decode cJ29_forInputString 0 = .ok (.new 10, 3) := dk_187 0 10 (dk_at dksJ29_forInputString_0 0 rfl rfl)
theorem dJ29_forInputString_3 : decode cJ29_forInputString 3 = .ok (.dup, 1) := dk_89 (dk_at dksJ29_forInputString_0 3 rfl rfl)
theorem dJ29_forInputString_4 : decode cJ29_forInputString 4 = .ok (.new 12, 3) := dk_187 0 12 (dk_at dksJ29_forInputString_0 4 rfl rfl)
theorem dJ29_forInputString_7 : decode cJ29_forInputString 7 = .ok (.dup, 1) := dk_89 (dk_at dksJ29_forInputString_0 7 rfl rfl)
theorem dJ29_forInputString_8 : decode cJ29_forInputString 8 = .ok (.invokespecial 14, 3) := dk_183 0 14 (dk_at dksJ29_forInputString_0 8 rfl rfl)
theorem dJ29_forInputString_11 : decode cJ29_forInputString 11 = .ok (.ldc 15, 2) := dk_18 15 (dk_at dksJ29_forInputString_0 11 rfl rfl)
theorem dJ29_forInputString_13 : decode cJ29_forInputString 13 = .ok (.invokevirtual 17, 3) := dk_182 0 17 (dk_at dksJ29_forInputString_0 13 rfl rfl)
theorem dJ29_forInputString_16 : decode cJ29_forInputString 16 = .ok (.aload_n 0, 1) := dk_42 (dk_at dksJ29_forInputString_0 16 rfl rfl)
theorem dJ29_forInputString_17 : decode cJ29_forInputString 17 = .ok (.invokevirtual 17, 3) := dk_182 0 17 (dk_at dksJ29_forInputString_0 17 rfl rfl)
theorem dJ29_forInputString_20 : decode cJ29_forInputString 20 = .ok (.ldc 21, 2) := dk_18 21 (dk_at dksJ29_forInputString_0 20 rfl rfl)
theorem dJ29_forInputString_22 : decode cJ29_forInputString 22 = .ok (.invokevirtual 17, 3) := dk_182 0 17 (dk_at dksJ29_forInputString_1 0 rfl rfl)
theorem dJ29_forInputString_25 : decode cJ29_forInputString 25 = .ok (.iload_n 1, 1) := dk_27 (dk_at dksJ29_forInputString_1 3 rfl rfl)
theorem dJ29_forInputString_26 : decode cJ29_forInputString 26 = .ok (.bipush 10, 2) := dk_16 10 (dk_at dksJ29_forInputString_1 4 rfl rfl)
theorem dJ29_forInputString_28 : decode cJ29_forInputString 28 = .ok (.if_icmp .ne 8, 3) := dk_160 0 8 (dk_at dksJ29_forInputString_1 6 rfl rfl)
theorem dJ29_forInputString_31 : decode cJ29_forInputString 31 = .ok (.ldc 23, 2) := dk_18 23 (dk_at dksJ29_forInputString_1 9 rfl rfl)
theorem dJ29_forInputString_33 : decode cJ29_forInputString 33 = .ok (.goto 22, 3) := dk_167 0 22 (dk_at dksJ29_forInputString_1 11 rfl rfl)
theorem dJ29_forInputString_36 : decode cJ29_forInputString 36 = .ok (.new 12, 3) := dk_187 0 12 (dk_at dksJ29_forInputString_1 14 rfl rfl)
theorem dJ29_forInputString_39 : decode cJ29_forInputString 39 = .ok (.dup, 1) := dk_89 (dk_at dksJ29_forInputString_1 17 rfl rfl)
theorem dJ29_forInputString_40 : decode cJ29_forInputString 40 = .ok (.invokespecial 14, 3) := dk_183 0 14 (dk_at dksJ29_forInputString_1 18 rfl rfl)
theorem dJ29_forInputString_43 : decode cJ29_forInputString 43 = .ok (.ldc 25, 2) := dk_18 25 (dk_at dksJ29_forInputString_1 21 rfl rfl)
theorem dJ29_forInputString_45 : decode cJ29_forInputString 45 = .ok (.invokevirtual 17, 3) := dk_182 0 17 (dk_at dksJ29_forInputString_2 0 rfl rfl)
theorem dJ29_forInputString_48 : decode cJ29_forInputString 48 = .ok (.iload_n 1, 1) := dk_27 (dk_at dksJ29_forInputString_2 3 rfl rfl)
theorem dJ29_forInputString_49 : decode cJ29_forInputString 49 = .ok (.invokevirtual 27, 3) := dk_182 0 27 (dk_at dksJ29_forInputString_2 4 rfl rfl)
theorem dJ29_forInputString_52 : decode cJ29_forInputString 52 = .ok (.invokevirtual 30, 3) := dk_182 0 30 (dk_at dksJ29_forInputString_2 7 rfl rfl)
theorem dJ29_forInputString_55 : decode cJ29_forInputString 55 = .ok (.invokevirtual 17, 3) := dk_182 0 17 (dk_at dksJ29_forInputString_2 10 rfl rfl)
theorem dJ29_forInputString_58 : decode cJ29_forInputString 58 = .ok (.invokevirtual 30, 3) := dk_182 0 30 (dk_at dksJ29_forInputString_2 13 rfl rfl)
theorem dJ29_forInputString_61 : decode cJ29_forInputString 61 = .ok (.invokespecial 34, 3) := dk_183 0 34 (dk_at dksJ29_forInputString_2 16 rfl rfl)
theorem dJ29_forInputString_64 : decode cJ29_forInputString 64 = .ok (.areturn, 1) := dk_176 (dk_at dksJ29_forInputString_2 19 rfl rfl)
theorem q71 : (Jvm.Cond.initialized "java/lang/NumberFormatException") ∈ lw_all := lw_g (lw_at lw_m1 32 rfl) rfl
theorem q107 : (Jvm.Cond.selects "java/lang/NumberFormatException" ({ cls := "java/lang/Throwable", name := "fillInStackTrace", desc := "()Ljava/lang/Throwable;" } : Jvm.MethodName) ({ cls := "java/lang/Throwable", name := "fillInStackTrace", desc := "()Ljava/lang/Throwable;" } : Jvm.MethodName)) ∈ lw_all := lw_g (lw_at lw_m1 68 rfl) rfl
theorem q1117 : (Jvm.Cond.instantiable "java/lang/NumberFormatException" (6 : Nat)) ∈ lw_all := lw_g (lw_at lw_m5 118 rfl) rfl
theorem q1118 : (Jvm.Cond.castable "java/lang/NumberFormatException" "java/lang/NumberFormatException") ∈ lw_tbl := lw_at lw_m5 119 rfl
theorem q1121 : (Jvm.Cond.selects "java/lang/NumberFormatException" ({ cls := "java/lang/Throwable", name := "fillInStackTrace", desc := "(I)Ljava/lang/Throwable;" } : Jvm.MethodName) ({ cls := "java/lang/Throwable", name := "fillInStackTrace", desc := "(I)Ljava/lang/Throwable;" } : Jvm.MethodName)) ∈ lw_all := lw_g (lw_at lw_m5 122 rfl) rfl
theorem q1122 : (Jvm.Cond.lays "java/lang/NumberFormatException" "java/lang/Throwable" "cause" "Ljava/lang/Throwable;") ∈ lw_all := lw_g (lw_at lw_m5 123 rfl) rfl
theorem q1123 : (Jvm.Cond.lays "java/lang/NumberFormatException" "java/lang/Throwable" "stackTrace" "[Ljava/lang/StackTraceElement;") ∈ lw_all := lw_g (lw_at lw_m5 124 rfl) rfl
theorem q1124 : (Jvm.Cond.lays "java/lang/NumberFormatException" "java/lang/Throwable" "suppressedExceptions" "Ljava/util/List;") ∈ lw_all := lw_g (lw_at lw_m5 125 rfl) rfl
theorem q1125 : (Jvm.Cond.lays "java/lang/NumberFormatException" "java/lang/Throwable" "detailMessage" "Ljava/lang/String;") ∈ lw_all := lw_g (lw_at lw_m5 126 rfl) rfl
theorem q1126 : (Jvm.Cond.lays "java/lang/NumberFormatException" "java/lang/Throwable" "backtrace" "Ljava/lang/Object;") ∈ lw_all := lw_g (lw_at lw_m5 127 rfl) rfl
theorem q1129 : (Jvm.Cond.instanceMethod ({ cls := "java/lang/NumberFormatException", name := "<init>", desc := "(Ljava/lang/String;)V" } : Jvm.MethodName)) ∈ lw_all := lw_g (lw_at lw_m5 130 rfl) rfl
theorem q1130 : (Jvm.Cond.code ({ cls := "java/lang/NumberFormatException", name := "<init>", desc := "(Ljava/lang/String;)V" } : Jvm.MethodName) prog_23_method_2_code (2 : Nat) (Option.none : Option Jvm.ClassFile.FieldType)) ∈ lw_all := lw_g (lw_at lw_m5 131 rfl) rfl
theorem q1131 : (Jvm.Cond.methodLink "java/lang/NumberFormatException" (7 : Nat) ({ cls := "java/lang/IllegalArgumentException", name := "<init>", desc := "(Ljava/lang/String;)V" } : Jvm.MethodName)) ∈ lw_all := lw_g (lw_at lw_m5 132 rfl) rfl
theorem q1132 : (Jvm.Cond.lays "java/lang/NumberFormatException" "java/lang/Throwable" "depth" "I") ∈ lw_all := lw_g (lw_at lw_m5 133 rfl) rfl
theorem q1133 : (Jvm.Cond.superclass "java/lang/NumberFormatException" "java/lang/IllegalArgumentException") ∈ lw_all := lw_g (lw_at lw_m5 134 rfl) rfl
theorem q1157 : (Jvm.Cond.static ({ cls := "java/lang/NumberFormatException", name := "forInputString", desc := "(Ljava/lang/String;I)Ljava/lang/NumberFormatException;" } : Jvm.MethodName)) ∈ lw_all := lw_g (lw_at lw_m5 158 rfl) rfl
theorem q1158 : (Jvm.Cond.code ({ cls := "java/lang/NumberFormatException", name := "forInputString", desc := "(Ljava/lang/String;I)Ljava/lang/NumberFormatException;" } : Jvm.MethodName) prog_23_method_3_code (2 : Nat) (Option.some (Jvm.ClassFile.FieldType.object "java/lang/NumberFormatException"))) ∈ lw_all := lw_g (lw_at lw_m5 159 rfl) rfl
theorem q1159 : (Jvm.Cond.classLink "java/lang/NumberFormatException" (10 : Nat) "java/lang/NumberFormatException") ∈ lw_all := lw_g (lw_at lw_m5 160 rfl) rfl
theorem q1160 : (Jvm.Cond.classLink "java/lang/NumberFormatException" (12 : Nat) "java/lang/StringBuilder") ∈ lw_all := lw_g (lw_at lw_m5 161 rfl) rfl
theorem q1161 : (Jvm.Cond.methodLink "java/lang/NumberFormatException" (14 : Nat) ({ cls := "java/lang/StringBuilder", name := "<init>", desc := "()V" } : Jvm.MethodName)) ∈ lw_all := lw_g (lw_at lw_m5 162 rfl) rfl
theorem q1162 : (Jvm.Cond.stringRef "java/lang/NumberFormatException" (15 : Nat) "For input string: \"") ∈ lw_tbl := lw_at lw_m5 163 rfl
theorem q1163 : (Jvm.Cond.methodLink "java/lang/NumberFormatException" (17 : Nat) ({ cls := "java/lang/StringBuilder", name := "append", desc := "(Ljava/lang/String;)Ljava/lang/StringBuilder;" } : Jvm.MethodName)) ∈ lw_all := lw_g (lw_at lw_m5 164 rfl) rfl
theorem q1164 : (Jvm.Cond.stringRef "java/lang/NumberFormatException" (21 : Nat) "\"") ∈ lw_tbl := lw_at lw_m5 165 rfl
theorem q1165 : (Jvm.Cond.stringRef "java/lang/NumberFormatException" (23 : Nat) "") ∈ lw_tbl := lw_at lw_m5 166 rfl
theorem q1166 : (Jvm.Cond.stringRef "java/lang/NumberFormatException" (25 : Nat) " under radix ") ∈ lw_tbl := lw_at lw_m5 167 rfl
theorem q1167 : (Jvm.Cond.methodLink "java/lang/NumberFormatException" (27 : Nat) ({ cls := "java/lang/StringBuilder", name := "append", desc := "(I)Ljava/lang/StringBuilder;" } : Jvm.MethodName)) ∈ lw_all := lw_g (lw_at lw_m5 168 rfl) rfl
theorem q1168 : (Jvm.Cond.methodLink "java/lang/NumberFormatException" (30 : Nat) ({ cls := "java/lang/StringBuilder", name := "toString", desc := "()Ljava/lang/String;" } : Jvm.MethodName)) ∈ lw_all := lw_g (lw_at lw_m5 169 rfl) rfl
theorem q1169 : (Jvm.Cond.methodLink "java/lang/NumberFormatException" (34 : Nat) ({ cls := "java/lang/NumberFormatException", name := "<init>", desc := "(Ljava/lang/String;)V" } : Jvm.MethodName)) ∈ lw_all := lw_g (lw_at lw_m5 170 rfl) rfl
theorem q1440 : (Jvm.Cond.selects "java/lang/NumberFormatException" ({ cls := "java/lang/Object", name := "equals", desc := "(Ljava/lang/Object;)Z" } : Jvm.MethodName) ({ cls := "java/lang/Object", name := "equals", desc := "(Ljava/lang/Object;)Z" } : Jvm.MethodName)) ∈ lw_all := lw_g (lw_at lw_m6 201 rfl) rfl
theorem q1787 : (Jvm.Cond.castable "java/lang/NumberFormatException" "java/lang/IllegalArgumentException") ∈ lw_tbl := lw_at lw_m8 68 rfl
theorem in_J29 : ∀ w ∈ wsJ290, w ∈ lw_all := lw_in wsJ290 [1122, 1123, 1124, 1125, 1126, 1132] (by decide +kernel) (by decide +kernel)
/-! java/lang/CharacterData -/
set_option maxRecDepth 100000
def RJ30 : String := "java/lang/CharacterData"
abbrev cJ30_of : ByteArray := prog_6_method_30_code
def yJ30_of : MethodName := ⟨RJ30, "of", "(I)Ljava/lang/CharacterData;"⟩
def dkwJ30_of_3 : List UInt8 := [178, 0, 35, 167, 0, 12, 178, 0, 38, 167, 0, 6, 178, 0, 41, 176]
abbrev dktJ30_of_3 : List UInt8 := dkwJ30_of_3 ++ []
def dkwJ30_of_2 : List UInt8 := [178, 0, 19, 167, 0, 36, 178, 0, 24, 167, 0, 30, 178, 0, 29, 167, 0, 24, 178, 0, 32, 167, 0, 18]
abbrev dktJ30_of_2 : List UInt8 := dkwJ30_of_2 ++ dktJ30_of_3
def dkwJ30_of_1 : List UInt8 := [170, 0, 0, 0, 117, 0, 0, 0, 0, 0, 0, 0, 16, 0, 0, 0, 81, 0, 0, 0, 87, 0, 0, 0, 93, 0, 0, 0, 99, 0, 0, 0, 117, 0, 0, 0, 117, 0, 0, 0, 117, 0, 0, 0, 117, 0, 0, 0, 117, 0, 0, 0, 117, 0, 0, 0, 117, 0, 0, 0, 117, 0, 0, 0, 117, 0, 0, 0, 117, 0, 0, 0, 105, 0, 0, 0, 111, 0, 0, 0, 111]
abbrev dktJ30_of_1 : List UInt8 := dkwJ30_of_1 ++ dktJ30_of_2
def dkwJ30_of_0 : List UInt8 := [26, 16, 8, 124, 154, 0, 7, 178, 0, 13, 176, 26, 16, 16, 124]
abbrev dktJ30_of_0 : List UInt8 := dkwJ30_of_0 ++ dktJ30_of_1
theorem dksJ30_of_0 : cJ30_of.data.toList.drop 0 = dktJ30_of_0 := by decide +kernel
theorem dksJ30_of_1 : cJ30_of.data.toList.drop 15 = dktJ30_of_1 := dk_seg dksJ30_of_0 15 rfl rfl
theorem dksJ30_of_2 : cJ30_of.data.toList.drop 96 = dktJ30_of_2 := dk_seg dksJ30_of_1 81 rfl rfl
theorem dksJ30_of_3 : cJ30_of.data.toList.drop 120 = dktJ30_of_3 := dk_seg dksJ30_of_2 24 rfl rfl
theorem dJ30_of_0 : decode cJ30_of 0 = .ok (.iload_n 0, 1) := dk_26 (dk_at dksJ30_of_0 0 rfl rfl)
theorem dJ30_of_1 : decode cJ30_of 1 = .ok (.bipush 8, 2) := dk_16 8 (dk_at dksJ30_of_0 1 rfl rfl)
theorem dJ30_of_3 : decode cJ30_of 3 = .ok (.iushr, 1) := dk_124 (dk_at dksJ30_of_0 3 rfl rfl)
theorem dJ30_of_4 : decode cJ30_of 4 = .ok (.ifCond .ne 7, 3) := dk_154 0 7 (dk_at dksJ30_of_0 4 rfl rfl)
theorem dJ30_of_7 : decode cJ30_of 7 = .ok (.getstatic 13, 3) := dk_178 0 13 (dk_at dksJ30_of_0 7 rfl rfl)
theorem dJ30_of_10 : decode cJ30_of 10 = .ok (.areturn, 1) := dk_176 (dk_at dksJ30_of_0 10 rfl rfl)
theorem dJ30_of_11 : decode cJ30_of 11 = .ok (.iload_n 0, 1) := dk_26 (dk_at dksJ30_of_0 11 rfl rfl)
theorem dJ30_of_12 : decode cJ30_of 12 = .ok (.bipush 16, 2) := dk_16 16 (dk_at dksJ30_of_0 12 rfl rfl)
theorem dJ30_of_14 : decode cJ30_of 14 = .ok (.iushr, 1) := dk_124 (dk_at dksJ30_of_0 14 rfl rfl)
theorem dJ30_of_15 : decode cJ30_of 15 = .ok (.tableswitch 117 0 16 #[81, 87, 93, 99, 117, 117, 117, 117, 117, 117, 117, 117, 117, 117, 105, 111, 111], 81) := by decide +kernel
theorem dJ30_of_96 : decode cJ30_of 96 = .ok (.getstatic 19, 3) := dk_178 0 19 (dk_at dksJ30_of_2 0 rfl rfl)
theorem dJ30_of_99 : decode cJ30_of 99 = .ok (.goto 36, 3) := dk_167 0 36 (dk_at dksJ30_of_2 3 rfl rfl)
theorem dJ30_of_102 : decode cJ30_of 102 = .ok (.getstatic 24, 3) := dk_178 0 24 (dk_at dksJ30_of_2 6 rfl rfl)
theorem dJ30_of_105 : decode cJ30_of 105 = .ok (.goto 30, 3) := dk_167 0 30 (dk_at dksJ30_of_2 9 rfl rfl)
theorem dJ30_of_108 : decode cJ30_of 108 = .ok (.getstatic 29, 3) := dk_178 0 29 (dk_at dksJ30_of_2 12 rfl rfl)
theorem dJ30_of_111 : decode cJ30_of 111 = .ok (.goto 24, 3) := dk_167 0 24 (dk_at dksJ30_of_2 15 rfl rfl)
theorem dJ30_of_114 : decode cJ30_of 114 = .ok (.getstatic 32, 3) := dk_178 0 32 (dk_at dksJ30_of_2 18 rfl rfl)
theorem dJ30_of_117 : decode cJ30_of 117 = .ok (.goto 18, 3) := dk_167 0 18 (dk_at dksJ30_of_2 21 rfl rfl)
theorem dJ30_of_120 : decode cJ30_of 120 = .ok (.getstatic 35, 3) := dk_178 0 35 (dk_at dksJ30_of_3 0 rfl rfl)
theorem dJ30_of_123 : decode cJ30_of 123 = .ok (.goto 12, 3) := dk_167 0 12 (dk_at dksJ30_of_3 3 rfl rfl)
theorem dJ30_of_126 : decode cJ30_of 126 = .ok (.getstatic 38, 3) := dk_178 0 38 (dk_at dksJ30_of_3 6 rfl rfl)
theorem dJ30_of_129 : decode cJ30_of 129 = .ok (.goto 6, 3) := dk_167 0 6 (dk_at dksJ30_of_3 9 rfl rfl)
theorem dJ30_of_132 : decode cJ30_of 132 = .ok (.getstatic 41, 3) := dk_178 0 41 (dk_at dksJ30_of_3 12 rfl rfl)
theorem dJ30_of_135 : decode cJ30_of 135 = .ok (.areturn, 1) := dk_176 (dk_at dksJ30_of_3 15 rfl rfl)
theorem q72 : (Jvm.Cond.initialized "java/lang/CharacterData") ∈ lw_all := lw_g (lw_at lw_m1 33 rfl) rfl
theorem q1177 : (Jvm.Cond.static ({ cls := "java/lang/CharacterData", name := "of", desc := "(I)Ljava/lang/CharacterData;" } : Jvm.MethodName)) ∈ lw_all := lw_g (lw_at lw_m5 178 rfl) rfl
theorem q1178 : (Jvm.Cond.code ({ cls := "java/lang/CharacterData", name := "of", desc := "(I)Ljava/lang/CharacterData;" } : Jvm.MethodName) prog_6_method_30_code (1 : Nat) (Option.some (Jvm.ClassFile.FieldType.object "java/lang/CharacterData"))) ∈ lw_all := lw_g (lw_at lw_m5 179 rfl) rfl
theorem q1179 : (Jvm.Cond.fieldLink "java/lang/CharacterData" (13 : Nat) "java/lang/CharacterDataLatin1" "instance" "Ljava/lang/CharacterDataLatin1;") ∈ lw_all := lw_g (lw_at lw_m5 180 rfl) rfl
theorem q1182 : (Jvm.Cond.declares ({ cls := "java/lang/CharacterData", name := "digit", desc := "(II)I" } : Jvm.MethodName)) ∈ lw_tbl := lw_at lw_m5 183 rfl
theorem q1183 : (Jvm.Cond.sameMethod "java/lang/CharacterData" "java/lang/CharacterData" "digit" "(II)I") ∈ lw_all := lw_g (lw_at lw_m5 184 rfl) rfl
/-! java/lang/CharacterDataLatin1 -/
set_option maxRecDepth 100000
def RJ31 : String := "java/lang/CharacterDataLatin1"
abbrev cJ31_digit : ByteArray := prog_7_method_24_code
def yJ31_digit : MethodName := ⟨RJ31, "digit", "(II)I"⟩
def dkwJ31_digit_1 : List UInt8 := [163, 0, 7, 29, 167, 0, 4, 2, 172]
abbrev dktJ31_digit_1 : List UInt8 := dkwJ31_digit_1 ++ []
def dkwJ31_digit_0 : List UInt8 := [178, 0, 25, 27, 51, 62, 29, 155, 0, 23, 29, 28, 162, 0, 18, 28, 5, 161, 0, 13, 28, 16, 36]
abbrev dktJ31_digit_0 : List UInt8 := dkwJ31_digit_0 ++ dktJ31_digit_1
theorem dksJ31_digit_0 : cJ31_digit.data.toList.drop 0 = dktJ31_digit_0 := by decide +kernel
theorem dksJ31_digit_1 : cJ31_digit.data.toList.drop 23 = dktJ31_digit_1 := dk_seg dksJ31_digit_0 23 rfl rfl
theorem dJ31_digit_0 : decode cJ31_digit 0 = .ok (.getstatic 25, 3) := dk_178 0 25 (dk_at dksJ31_digit_0 0 rfl rfl)
theorem dJ31_digit_3 : decode cJ31_digit 3 = .ok (.iload_n 1, 1) := dk_27 (dk_at dksJ31_digit_0 3 rfl rfl)
theorem dJ31_digit_4 : decode cJ31_digit 4 = .ok (.baload, 1) := dk_51 (dk_at dksJ31_digit_0 4 rfl rfl)
theorem dJ31_digit_5 : decode cJ31_digit 5 = .ok (.istore_n 3, 1) := dk_62 (dk_at dksJ31_digit_0 5 rfl rfl)
theorem dJ31_digit_6 : decode cJ31_digit 6 = .ok (.iload_n 3, 1) := dk_29 (dk_at dksJ31_digit_0 6 rfl rfl)
theorem dJ31_digit_7 : decode cJ31_digit 7 = .ok (.ifCond .lt 23, 3) := dk_155 0 23 (dk_at dksJ31_digit_0 7 rfl rfl)
theorem dJ31_digit_10 : decode cJ31_digit 10 = .ok (.iload_n 3, 1) := dk_29 (dk_at dksJ31_digit_0 10 rfl rfl)
theorem dJ31_digit_11 : decode cJ31_digit 11 = .ok (.iload_n 2, 1) := dk_28 (dk_at dksJ31_digit_0 11 rfl rfl)
theorem dJ31_digit_12 : decode cJ31_digit 12 = .ok (.if_icmp .ge 18, 3) := dk_162 0 18 (dk_at dksJ31_digit_0 12 rfl rfl)
theorem dJ31_digit_15 : decode cJ31_digit 15 = .ok (.iload_n 2, 1) := dk_28 (dk_at dksJ31_digit_0 15 rfl rfl)
theorem dJ31_digit_16 : decode cJ31_digit 16 = .ok (.iconst 2, 1) := dk_5 (dk_at dksJ31_digit_0 16 rfl rfl)
theorem dJ31_digit_17 : decode cJ31_digit 17 = .ok (.if_icmp .lt 13, 3) := dk_161 0 13 (dk_at dksJ31_digit_0 17 rfl rfl)
theorem dJ31_digit_20 : decode cJ31_digit 20 = .ok (.iload_n 2, 1) := dk_28 (dk_at dksJ31_digit_0 20 rfl rfl)
theorem dJ31_digit_21 : decode cJ31_digit 21 = .ok (.bipush 36, 2) := dk_16 36 (dk_at dksJ31_digit_0 21 rfl rfl)
theorem dJ31_digit_23 : decode cJ31_digit 23 = .ok (.if_icmp .gt 7, 3) := dk_163 0 7 (dk_at dksJ31_digit_1 0 rfl rfl)
theorem dJ31_digit_26 : decode cJ31_digit 26 = .ok (.iload_n 3, 1) := dk_29 (dk_at dksJ31_digit_1 3 rfl rfl)
theorem dJ31_digit_27 : decode cJ31_digit 27 = .ok (.goto 4, 3) := dk_167 0 4 (dk_at dksJ31_digit_1 4 rfl rfl)
theorem dJ31_digit_30 : decode cJ31_digit 30 = .ok (.iconst (-1), 1) := dk_2 (dk_at dksJ31_digit_1 7 rfl rfl)
theorem dJ31_digit_31 : decode cJ31_digit 31 = .ok (.ireturn, 1) := dk_172 (dk_at dksJ31_digit_1 8 rfl rfl)
theorem q73 : (Jvm.Cond.initialized "java/lang/CharacterDataLatin1") ∈ lw_all := lw_g (lw_at lw_m1 34 rfl) rfl
theorem q1180 : (Jvm.Cond.laysStatic "java/lang/CharacterDataLatin1" "instance" "Ljava/lang/CharacterDataLatin1;") ∈ lw_tbl := lw_at lw_m5 181 rfl
theorem q1184 : (Jvm.Cond.selects "java/lang/CharacterDataLatin1" ({ cls := "java/lang/CharacterData", name := "digit", desc := "(II)I" } : Jvm.MethodName) ({ cls := "java/lang/CharacterDataLatin1", name := "digit", desc := "(II)I" } : Jvm.MethodName)) ∈ lw_all := lw_g (lw_at lw_m5 185 rfl) rfl
theorem q1185 : (Jvm.Cond.instanceMethod ({ cls := "java/lang/CharacterDataLatin1", name := "digit", desc := "(II)I" } : Jvm.MethodName)) ∈ lw_all := lw_g (lw_at lw_m5 186 rfl) rfl
theorem q1186 : (Jvm.Cond.code ({ cls := "java/lang/CharacterDataLatin1", name := "digit", desc := "(II)I" } : Jvm.MethodName) prog_7_method_24_code (4 : Nat) (Option.some Jvm.ClassFile.FieldType.int)) ∈ lw_all := lw_g (lw_at lw_m5 187 rfl) rfl
theorem q1187 : (Jvm.Cond.fieldLink "java/lang/CharacterDataLatin1" (25 : Nat) "java/lang/CharacterDataLatin1" "DIGITS" "[B") ∈ lw_all := lw_g (lw_at lw_m5 188 rfl) rfl
theorem q1188 : (Jvm.Cond.laysStatic "java/lang/CharacterDataLatin1" "DIGITS" "[B") ∈ lw_tbl := lw_at lw_m5 189 rfl
theorem q1436 : (Jvm.Cond.selects "java/lang/CharacterDataLatin1" ({ cls := "java/lang/Object", name := "equals", desc := "(Ljava/lang/Object;)Z" } : Jvm.MethodName) ({ cls := "java/lang/Object", name := "equals", desc := "(Ljava/lang/Object;)Z" } : Jvm.MethodName)) ∈ lw_all := lw_g (lw_at lw_m6 197 rfl) rfl
/-! java/lang/Object -/
set_option maxRecDepth 100000
def RJ33 : String := "java/lang/Object"
abbrev cJ33_init : ByteArray := object_method_1_code
def yJ33_init : MethodName := ⟨RJ33, "<init>", "()V"⟩
theorem dJ33_init_0 : decode cJ33_init 0 = .ok (.return_, 1) := by decide +kernel
abbrev cJ33_equals : ByteArray := object_method_4_code
def yJ33_equals : MethodName := ⟨RJ33, "equals", "(Ljava/lang/Object;)Z"⟩
def dkwJ33_equals_0 : List UInt8 := [42, 43, 166, 0, 7, 4, 167, 0, 4, 3, 172]
abbrev dktJ33_equals_0 : List UInt8 := dkwJ33_equals_0 ++ []
theorem dksJ33_equals_0 : cJ33_equals.data.toList.drop 0 = dktJ33_equals_0 := by decide +kernel
theorem dJ33_equals_0 : decode cJ33_equals 0 = .ok (.aload_n 0, 1) := dk_42 (dk_at dksJ33_equals_0 0 rfl rfl)
theorem dJ33_equals_1 : decode cJ33_equals 1 = .ok (.aload_n 1, 1) := dk_43 (dk_at dksJ33_equals_0 1 rfl rfl)
theorem dJ33_equals_2 : decode cJ33_equals 2 = .ok (.if_acmp .ne 7, 3) := dk_166 0 7 (dk_at dksJ33_equals_0 2 rfl rfl)
theorem dJ33_equals_5 : decode cJ33_equals 5 = .ok (.iconst 1, 1) := dk_4 (dk_at dksJ33_equals_0 5 rfl rfl)
theorem dJ33_equals_6 : decode cJ33_equals 6 = .ok (.goto 4, 3) := dk_167 0 4 (dk_at dksJ33_equals_0 6 rfl rfl)
theorem dJ33_equals_9 : decode cJ33_equals 9 = .ok (.iconst 0, 1) := dk_3 (dk_at dksJ33_equals_0 9 rfl rfl)
theorem dJ33_equals_10 : decode cJ33_equals 10 = .ok (.ireturn, 1) := dk_172 (dk_at dksJ33_equals_0 10 rfl rfl)
theorem q95 : (Jvm.Cond.instanceMethod ({ cls := "java/lang/Object", name := "<init>", desc := "()V" } : Jvm.MethodName)) ∈ lw_all := lw_g (lw_at lw_m1 56 rfl) rfl
theorem q96 : (Jvm.Cond.code ({ cls := "java/lang/Object", name := "<init>", desc := "()V" } : Jvm.MethodName) object_method_1_code (1 : Nat) (Option.none : Option Jvm.ClassFile.FieldType)) ∈ lw_all := lw_g (lw_at lw_m1 57 rfl) rfl
theorem q493 : (Jvm.Cond.native ({ cls := "java/lang/Object", name := "clone", desc := "()Ljava/lang/Object;" } : Jvm.MethodName)) ∈ lw_all := lw_g (lw_at lw_m2 214 rfl) rfl
theorem q494 : (Jvm.Cond.instanceMethod ({ cls := "java/lang/Object", name := "clone", desc := "()Ljava/lang/Object;" } : Jvm.MethodName)) ∈ lw_all := lw_g (lw_at lw_m2 215 rfl) rfl
theorem q1431 : (Jvm.Cond.instanceMethod ({ cls := "java/lang/Object", name := "equals", desc := "(Ljava/lang/Object;)Z" } : Jvm.MethodName)) ∈ lw_all := lw_g (lw_at lw_m6 192 rfl) rfl
theorem q1432 : (Jvm.Cond.sameMethod "java/lang/Object" "java/lang/Object" "equals" "(Ljava/lang/Object;)Z") ∈ lw_all := lw_g (lw_at lw_m6 193 rfl) rfl
theorem q1453 : (Jvm.Cond.code ({ cls := "java/lang/Object", name := "equals", desc := "(Ljava/lang/Object;)Z" } : Jvm.MethodName) object_method_4_code (2 : Nat) (Option.some Jvm.ClassFile.FieldType.boolean)) ∈ lw_all := lw_g (lw_at lw_m6 214 rfl) rfl
theorem q1457 : (Jvm.Cond.declares ({ cls := "java/lang/Object", name := "equals", desc := "(Ljava/lang/Object;)Z" } : Jvm.MethodName)) ∈ lw_tbl := lw_at lw_m6 218 rfl
theorem q1785 : (Jvm.Cond.initialized "java/lang/Object") ∈ lw_all := lw_g (lw_at lw_m8 66 rfl) rfl
/-! java/lang/System$2 -/
set_option maxRecDepth 100000
def RJ34 : String := "java/lang/System$2"
abbrev cJ34_getUTF16Char : ByteArray := prog_31_method_45_code
def yJ34_getUTF16Char : MethodName := ⟨RJ34, "getUTF16Char", "([BI)C"⟩
def dkwJ34_getUTF16Char_0 : List UInt8 := [43, 28, 184, 0, 185, 172]
abbrev dktJ34_getUTF16Char_0 : List UInt8 := dkwJ34_getUTF16Char_0 ++ []
theorem dksJ34_getUTF16Char_0 : cJ34_getUTF16Char.data.toList.drop 0 = dktJ34_getUTF16Char_0 := by decide +kernel
theorem dJ34_getUTF16Char_0 : decode cJ34_getUTF16Char 0 = .ok (.aload_n 1, 1) := dk_43 (dk_at dksJ34_getUTF16Char_0 0 rfl rfl)
theorem dJ34_getUTF16Char_1 : decode cJ34_getUTF16Char 1 = .ok (.iload_n 2, 1) := dk_28 (dk_at dksJ34_getUTF16Char_0 1 rfl rfl)
theorem dJ34_getUTF16Char_2 : decode cJ34_getUTF16Char 2 = .ok (.invokestatic 185, 3) := dk_184 0 185 (dk_at dksJ34_getUTF16Char_0 2 rfl rfl)
theorem dJ34_getUTF16Char_5 : decode cJ34_getUTF16Char 5 = .ok (.ireturn, 1) := dk_172 (dk_at dksJ34_getUTF16Char_0 5 rfl rfl)
theorem q1449 : (Jvm.Cond.selects "java/lang/System$2" ({ cls := "java/lang/Object", name := "equals", desc := "(Ljava/lang/Object;)Z" } : Jvm.MethodName) ({ cls := "java/lang/Object", name := "equals", desc := "(Ljava/lang/Object;)Z" } : Jvm.MethodName)) ∈ lw_all := lw_g (lw_at lw_m6 210 rfl) rfl
theorem q1632 : (Jvm.Cond.castable "java/lang/System$2" "jdk/internal/access/JavaLangAccess") ∈ lw_tbl := lw_at lw_m7 153 rfl
theorem q1633 : (Jvm.Cond.selects "java/lang/System$2" ({ cls := "jdk/internal/access/JavaLangAccess", name := "getUTF16Char", desc := "([BI)C" } : Jvm.MethodName) ({ cls := "java/lang/System$2", name := "getUTF16Char", desc := "([BI)C" } : Jvm.MethodName)) ∈ lw_all := lw_g (lw_at lw_m7 154 rfl) rfl
theorem q1634 : (Jvm.Cond.unhidden "java/lang/System$2" "getUTF16Char" "([BI)C") ∈ lw_tbl := lw_at lw_m7 155 rfl
theorem q1635 : (Jvm.Cond.instanceMethod ({ cls := "java/lang/System$2", name := "getUTF16Char", desc := "([BI)C" } : Jvm.MethodName)) ∈ lw_all := lw_g (lw_at lw_m7 156 rfl) rfl
theorem q1636 : (Jvm.Cond.publicMethod ({ cls := "java/lang/System$2", name := "getUTF16Char", desc := "([BI)C" } : Jvm.MethodName)) ∈ lw_tbl := lw_at lw_m7 157 rfl
theorem q1637 : (Jvm.Cond.code ({ cls := "java/lang/System$2", name := "getUTF16Char", desc := "([BI)C" } : Jvm.MethodName) prog_31_method_45_code (3 : Nat) (Option.some Jvm.ClassFile.FieldType.char)) ∈ lw_all := lw_g (lw_at lw_m7 158 rfl) rfl
theorem q1638 : (Jvm.Cond.methodLink "java/lang/System$2" (185 : Nat) ({ cls := "java/lang/StringUTF16", name := "getChar", desc := "([BI)C" } : Jvm.MethodName)) ∈ lw_all := lw_g (lw_at lw_m7 159 rfl) rfl
