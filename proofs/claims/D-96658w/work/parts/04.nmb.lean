/-! java/lang/Throwable -/
set_option maxRecDepth 100000
def RJ0 : String := "java/lang/Throwable"
def TJ0 : u_T := fun k => match k with
  | 0 => ("java/lang/Throwable", "cause", "Ljava/lang/Throwable;", false)
  | 1 => ("java/lang/Throwable", "stackTrace", "[Ljava/lang/StackTraceElement;", false)
  | 2 => ("java/lang/Throwable", "suppressedExceptions", "Ljava/util/List;", false)
  | 3 => ("java/lang/Throwable", "detailMessage", "Ljava/lang/String;", false)
  | _ => ("java/lang/Throwable", "backtrace", "Ljava/lang/Object;", false)
def tyJ0 : Nat → FieldType := fun k => match k with
  | 0 => .object "java/lang/Throwable"
  | 1 => .array (.object "java/lang/StackTraceElement")
  | 2 => .object "java/util/List"
  | 3 => .object "java/lang/String"
  | _ => .object "java/lang/Object"
abbrev wsJ00 : List Cond := u_ws RJ0 TJ0 5
theorem nmJ0 : ∀ a, a < 5 → ∀ b, b < 5 → a ≠ b → (TJ0 a).2.1 ≠ (TJ0 b).2.1 := by decide +kernel
theorem tyJ0_ok : ∀ k, k < 5 → parseFieldDescriptor (TJ0 k).2.2.1 = some (tyJ0 k) := by decide +kernel
abbrev cJ0_init : ByteArray := prog_35_method_2_code
def yJ0_init : MethodName := ⟨RJ0, "<init>", "(Ljava/lang/String;)V"⟩
def dkwJ0_init_1 : List UInt8 := [182, 0, 27, 87, 42, 43, 181, 0, 31, 177]
abbrev dktJ0_init_1 : List UInt8 := dkwJ0_init_1 ++ []
def dkwJ0_init_0 : List UInt8 := [42, 183, 0, 1, 42, 42, 181, 0, 7, 42, 178, 0, 13, 181, 0, 17, 42, 178, 0, 20, 181, 0, 24, 42]
abbrev dktJ0_init_0 : List UInt8 := dkwJ0_init_0 ++ dktJ0_init_1
theorem dksJ0_init_0 : cJ0_init.data.toList.drop 0 = dktJ0_init_0 := by decide +kernel
theorem dksJ0_init_1 : cJ0_init.data.toList.drop 24 = dktJ0_init_1 := dk_seg dksJ0_init_0 24 rfl rfl
theorem dJ0_init_0 : decode cJ0_init 0 = .ok (.aload_n 0, 1) := dk_42 (dk_at dksJ0_init_0 0 rfl rfl)
theorem dJ0_init_1 : decode cJ0_init 1 = .ok (.invokespecial 1, 3) := dk_183 0 1 (dk_at dksJ0_init_0 1 rfl rfl)
theorem dJ0_init_4 : decode cJ0_init 4 = .ok (.aload_n 0, 1) := dk_42 (dk_at dksJ0_init_0 4 rfl rfl)
theorem dJ0_init_5 : decode cJ0_init 5 = .ok (.aload_n 0, 1) := dk_42 (dk_at dksJ0_init_0 5 rfl rfl)
theorem dJ0_init_6 : decode cJ0_init 6 = .ok (.putfield 7, 3) := dk_181 0 7 (dk_at dksJ0_init_0 6 rfl rfl)
theorem dJ0_init_9 : decode cJ0_init 9 = .ok (.aload_n 0, 1) := dk_42 (dk_at dksJ0_init_0 9 rfl rfl)
theorem dJ0_init_10 : decode cJ0_init 10 = .ok (.getstatic 13, 3) := dk_178 0 13 (dk_at dksJ0_init_0 10 rfl rfl)
theorem dJ0_init_13 : decode cJ0_init 13 = .ok (.putfield 17, 3) := dk_181 0 17 (dk_at dksJ0_init_0 13 rfl rfl)
theorem dJ0_init_16 : decode cJ0_init 16 = .ok (.aload_n 0, 1) := dk_42 (dk_at dksJ0_init_0 16 rfl rfl)
theorem dJ0_init_17 : decode cJ0_init 17 = .ok (.getstatic 20, 3) := dk_178 0 20 (dk_at dksJ0_init_0 17 rfl rfl)
theorem dJ0_init_20 : decode cJ0_init 20 = .ok (.putfield 24, 3) := dk_181 0 24 (dk_at dksJ0_init_0 20 rfl rfl)
theorem dJ0_init_23 : decode cJ0_init 23 = .ok (.aload_n 0, 1) := dk_42 (dk_at dksJ0_init_0 23 rfl rfl)
theorem dJ0_init_24 : decode cJ0_init 24 = .ok (.invokevirtual 27, 3) := dk_182 0 27 (dk_at dksJ0_init_1 0 rfl rfl)
theorem dJ0_init_27 : decode cJ0_init 27 = .ok (.pop, 1) := dk_87 (dk_at dksJ0_init_1 3 rfl rfl)
theorem dJ0_init_28 : decode cJ0_init 28 = .ok (.aload_n 0, 1) := dk_42 (dk_at dksJ0_init_1 4 rfl rfl)
theorem dJ0_init_29 : decode cJ0_init 29 = .ok (.aload_n 1, 1) := dk_43 (dk_at dksJ0_init_1 5 rfl rfl)
theorem dJ0_init_30 : decode cJ0_init 30 = .ok (.putfield 31, 3) := dk_181 0 31 (dk_at dksJ0_init_1 6 rfl rfl)
theorem dJ0_init_33 : decode cJ0_init 33 = .ok (.return_, 1) := dk_177 (dk_at dksJ0_init_1 9 rfl rfl)
abbrev cJ0_init_2 : ByteArray := prog_35_method_1_code
def yJ0_init_2 : MethodName := ⟨RJ0, "<init>", "()V"⟩
def dkwJ0_init_2_1 : List UInt8 := [182, 0, 27, 87, 177]
abbrev dktJ0_init_2_1 : List UInt8 := dkwJ0_init_2_1 ++ []
def dkwJ0_init_2_0 : List UInt8 := [42, 183, 0, 1, 42, 42, 181, 0, 7, 42, 178, 0, 13, 181, 0, 17, 42, 178, 0, 20, 181, 0, 24, 42]
abbrev dktJ0_init_2_0 : List UInt8 := dkwJ0_init_2_0 ++ dktJ0_init_2_1
theorem dksJ0_init_2_0 : cJ0_init_2.data.toList.drop 0 = dktJ0_init_2_0 := by decide +kernel
theorem dksJ0_init_2_1 : cJ0_init_2.data.toList.drop 24 = dktJ0_init_2_1 := dk_seg dksJ0_init_2_0 24 rfl rfl
theorem dJ0_init_2_0 : decode cJ0_init_2 0 = .ok (.aload_n 0, 1) := dk_42 (dk_at dksJ0_init_2_0 0 rfl rfl)
theorem dJ0_init_2_1 : decode cJ0_init_2 1 = .ok (.invokespecial 1, 3) := dk_183 0 1 (dk_at dksJ0_init_2_0 1 rfl rfl)
theorem dJ0_init_2_4 : decode cJ0_init_2 4 = .ok (.aload_n 0, 1) := dk_42 (dk_at dksJ0_init_2_0 4 rfl rfl)
theorem dJ0_init_2_5 : decode cJ0_init_2 5 = .ok (.aload_n 0, 1) := dk_42 (dk_at dksJ0_init_2_0 5 rfl rfl)
theorem dJ0_init_2_6 : decode cJ0_init_2 6 = .ok (.putfield 7, 3) := dk_181 0 7 (dk_at dksJ0_init_2_0 6 rfl rfl)
theorem dJ0_init_2_9 : decode cJ0_init_2 9 = .ok (.aload_n 0, 1) := dk_42 (dk_at dksJ0_init_2_0 9 rfl rfl)
theorem dJ0_init_2_10 : decode cJ0_init_2 10 = .ok (.getstatic 13, 3) := dk_178 0 13 (dk_at dksJ0_init_2_0 10 rfl rfl)
theorem dJ0_init_2_13 : decode cJ0_init_2 13 = .ok (.putfield 17, 3) := dk_181 0 17 (dk_at dksJ0_init_2_0 13 rfl rfl)
theorem dJ0_init_2_16 : decode cJ0_init_2 16 = .ok (.aload_n 0, 1) := dk_42 (dk_at dksJ0_init_2_0 16 rfl rfl)
theorem dJ0_init_2_17 : decode cJ0_init_2 17 = .ok (.getstatic 20, 3) := dk_178 0 20 (dk_at dksJ0_init_2_0 17 rfl rfl)
theorem dJ0_init_2_20 : decode cJ0_init_2 20 = .ok (.putfield 24, 3) := dk_181 0 24 (dk_at dksJ0_init_2_0 20 rfl rfl)
theorem dJ0_init_2_23 : decode cJ0_init_2 23 = .ok (.aload_n 0, 1) := dk_42 (dk_at dksJ0_init_2_0 23 rfl rfl)
theorem dJ0_init_2_24 : decode cJ0_init_2 24 = .ok (.invokevirtual 27, 3) := dk_182 0 27 (dk_at dksJ0_init_2_1 0 rfl rfl)
theorem dJ0_init_2_27 : decode cJ0_init_2 27 = .ok (.pop, 1) := dk_87 (dk_at dksJ0_init_2_1 3 rfl rfl)
theorem dJ0_init_2_28 : decode cJ0_init_2 28 = .ok (.return_, 1) := dk_177 (dk_at dksJ0_init_2_1 4 rfl rfl)
theorem q43 : (Jvm.Cond.initialized "java/lang/Throwable") ∈ lw_all := lw_g (lw_at lw_m1 5 rfl) rfl
theorem q85 : (Jvm.Cond.instanceMethod ({ cls := "java/lang/Throwable", name := "<init>", desc := "(Ljava/lang/String;)V" } : Jvm.MethodName)) ∈ lw_all := lw_g (lw_at lw_m1 47 rfl) rfl
theorem q86 : (Jvm.Cond.code ({ cls := "java/lang/Throwable", name := "<init>", desc := "(Ljava/lang/String;)V" } : Jvm.MethodName) prog_35_method_2_code (2 : Nat) (Option.none : Option Jvm.ClassFile.FieldType)) ∈ lw_all := lw_g (lw_at lw_m1 48 rfl) rfl
theorem q87 : (Jvm.Cond.methodLink "java/lang/Throwable" (1 : Nat) ({ cls := "java/lang/Object", name := "<init>", desc := "()V" } : Jvm.MethodName)) ∈ lw_all := lw_g (lw_at lw_m1 49 rfl) rfl
theorem q90 : (Jvm.Cond.fieldLink "java/lang/Throwable" (13 : Nat) "java/lang/Throwable" "UNASSIGNED_STACK" "[Ljava/lang/StackTraceElement;") ∈ lw_all := lw_g (lw_at lw_m1 52 rfl) rfl
theorem q91 : (Jvm.Cond.laysStatic "java/lang/Throwable" "UNASSIGNED_STACK" "[Ljava/lang/StackTraceElement;") ∈ lw_tbl := lw_at lw_m1 53 rfl
theorem q92 : (Jvm.Cond.fieldLink "java/lang/Throwable" (20 : Nat) "java/lang/Throwable" "SUPPRESSED_SENTINEL" "Ljava/util/List;") ∈ lw_all := lw_g (lw_at lw_m1 54 rfl) rfl
theorem q93 : (Jvm.Cond.laysStatic "java/lang/Throwable" "SUPPRESSED_SENTINEL" "Ljava/util/List;") ∈ lw_tbl := lw_at lw_m1 55 rfl
theorem q94 : (Jvm.Cond.methodLink "java/lang/Throwable" (27 : Nat) ({ cls := "java/lang/Throwable", name := "fillInStackTrace", desc := "()Ljava/lang/Throwable;" } : Jvm.MethodName)) ∈ lw_all := lw_g (lw_at lw_m1 56 rfl) rfl
theorem q95 : (Jvm.Cond.instanceMethod ({ cls := "java/lang/Throwable", name := "fillInStackTrace", desc := "()Ljava/lang/Throwable;" } : Jvm.MethodName)) ∈ lw_all := lw_g (lw_at lw_m1 57 rfl) rfl
theorem q96 : (Jvm.Cond.sameMethod "java/lang/Throwable" "java/lang/Throwable" "fillInStackTrace" "()Ljava/lang/Throwable;") ∈ lw_all := lw_g (lw_at lw_m1 58 rfl) rfl
theorem q114 : (Jvm.Cond.declares ({ cls := "java/lang/Throwable", name := "fillInStackTrace", desc := "()Ljava/lang/Throwable;" } : Jvm.MethodName)) ∈ lw_tbl := lw_at lw_m1 76 rfl
theorem q118 : (Jvm.Cond.codeSync ({ cls := "java/lang/Throwable", name := "fillInStackTrace", desc := "()Ljava/lang/Throwable;" } : Jvm.MethodName) prog_35_method_18_code (1 : Nat) (Option.some (Jvm.ClassFile.FieldType.object "java/lang/Throwable"))) ∈ lw_all := lw_g (lw_at lw_m1 80 rfl) rfl
theorem q119 : (Jvm.Cond.methodLink "java/lang/Throwable" (202 : Nat) ({ cls := "java/lang/Throwable", name := "fillInStackTrace", desc := "(I)Ljava/lang/Throwable;" } : Jvm.MethodName)) ∈ lw_all := lw_g (lw_at lw_m1 81 rfl) rfl
theorem q120 : (Jvm.Cond.privateMethod ({ cls := "java/lang/Throwable", name := "fillInStackTrace", desc := "(I)Ljava/lang/Throwable;" } : Jvm.MethodName)) ∈ lw_tbl := lw_at lw_m1 82 rfl
theorem q121 : (Jvm.Cond.instanceMethod ({ cls := "java/lang/Throwable", name := "fillInStackTrace", desc := "(I)Ljava/lang/Throwable;" } : Jvm.MethodName)) ∈ lw_all := lw_g (lw_at lw_m1 83 rfl) rfl
theorem q122 : (Jvm.Cond.instantiable "java/lang/Throwable" (6 : Nat)) ∈ lw_all := lw_g (lw_at lw_m1 84 rfl) rfl
theorem q123 : (Jvm.Cond.native ({ cls := "java/lang/Throwable", name := "fillInStackTrace", desc := "(I)Ljava/lang/Throwable;" } : Jvm.MethodName)) ∈ lw_all := lw_g (lw_at lw_m1 85 rfl) rfl
theorem q124 : (Jvm.Cond.fieldLink "java/lang/Throwable" (198 : Nat) "java/lang/Throwable" "backtrace" "Ljava/lang/Object;") ∈ lw_all := lw_g (lw_at lw_m1 86 rfl) rfl
theorem q125 : (Jvm.Cond.fieldLink "java/lang/Throwable" (31 : Nat) "java/lang/Throwable" "detailMessage" "Ljava/lang/String;") ∈ lw_all := lw_g (lw_at lw_m1 87 rfl) rfl
theorem q126 : (Jvm.Cond.fieldLink "java/lang/Throwable" (7 : Nat) "java/lang/Throwable" "cause" "Ljava/lang/Throwable;") ∈ lw_all := lw_g (lw_at lw_m1 88 rfl) rfl
theorem q127 : (Jvm.Cond.fieldLink "java/lang/Throwable" (17 : Nat) "java/lang/Throwable" "stackTrace" "[Ljava/lang/StackTraceElement;") ∈ lw_all := lw_g (lw_at lw_m1 89 rfl) rfl
theorem q128 : (Jvm.Cond.fieldLink "java/lang/Throwable" (24 : Nat) "java/lang/Throwable" "suppressedExceptions" "Ljava/util/List;") ∈ lw_all := lw_g (lw_at lw_m1 90 rfl) rfl
theorem q130 : (Jvm.Cond.soleField "java/lang/Throwable" "backtrace") ∈ lw_all := lw_g (lw_at lw_m1 92 rfl) rfl
theorem q132 : (Jvm.Cond.soleField "java/lang/Throwable" "detailMessage") ∈ lw_all := lw_g (lw_at lw_m1 94 rfl) rfl
theorem q134 : (Jvm.Cond.soleField "java/lang/Throwable" "cause") ∈ lw_all := lw_g (lw_at lw_m1 96 rfl) rfl
theorem q136 : (Jvm.Cond.soleField "java/lang/Throwable" "stackTrace") ∈ lw_all := lw_g (lw_at lw_m1 98 rfl) rfl
theorem q138 : (Jvm.Cond.soleField "java/lang/Throwable" "depth") ∈ lw_all := lw_g (lw_at lw_m1 100 rfl) rfl
theorem q140 : (Jvm.Cond.soleField "java/lang/Throwable" "suppressedExceptions") ∈ lw_all := lw_g (lw_at lw_m1 102 rfl) rfl
theorem q147 : (Jvm.Cond.declares ({ cls := "java/lang/Throwable", name := "<init>", desc := "()V" } : Jvm.MethodName)) ∈ lw_tbl := lw_at lw_m1 109 rfl
theorem q148 : (Jvm.Cond.declares ({ cls := "java/lang/Throwable", name := "<init>", desc := "(Ljava/lang/String;)V" } : Jvm.MethodName)) ∈ lw_tbl := lw_at lw_m1 110 rfl
theorem q150 : (Jvm.Cond.lays "java/lang/Throwable" "java/lang/Throwable" "cause" "Ljava/lang/Throwable;") ∈ lw_all := lw_g (lw_at lw_m1 112 rfl) rfl
theorem q151 : (Jvm.Cond.lays "java/lang/Throwable" "java/lang/Throwable" "stackTrace" "[Ljava/lang/StackTraceElement;") ∈ lw_all := lw_g (lw_at lw_m1 113 rfl) rfl
theorem q152 : (Jvm.Cond.lays "java/lang/Throwable" "java/lang/Throwable" "suppressedExceptions" "Ljava/util/List;") ∈ lw_all := lw_g (lw_at lw_m1 114 rfl) rfl
theorem q153 : (Jvm.Cond.lays "java/lang/Throwable" "java/lang/Throwable" "detailMessage" "Ljava/lang/String;") ∈ lw_all := lw_g (lw_at lw_m1 115 rfl) rfl
theorem q154 : (Jvm.Cond.lays "java/lang/Throwable" "java/lang/Throwable" "backtrace" "Ljava/lang/Object;") ∈ lw_all := lw_g (lw_at lw_m1 116 rfl) rfl
theorem q155 : (Jvm.Cond.fieldLink "java/lang/Throwable" (198 : Nat) "java/lang/Throwable" "backtrace" "Ljava/lang/Object;") ∈ lw_all := lw_g (lw_at lw_m1 117 rfl) rfl
theorem q156 : (Jvm.Cond.superclass "java/lang/Throwable" "java/lang/Object") ∈ lw_all := lw_g (lw_at lw_m1 118 rfl) rfl
theorem q157 : (Jvm.Cond.instanceMethod ({ cls := "java/lang/Throwable", name := "<init>", desc := "()V" } : Jvm.MethodName)) ∈ lw_all := lw_g (lw_at lw_m1 119 rfl) rfl
theorem q158 : (Jvm.Cond.code ({ cls := "java/lang/Throwable", name := "<init>", desc := "()V" } : Jvm.MethodName) prog_35_method_1_code (1 : Nat) (Option.none : Option Jvm.ClassFile.FieldType)) ∈ lw_all := lw_g (lw_at lw_m1 120 rfl) rfl
theorem q1436 : (Jvm.Cond.sameMethod "java/lang/Throwable" "java/lang/Throwable" "fillInStackTrace" "(I)Ljava/lang/Throwable;") ∈ lw_all := lw_g (lw_at lw_m6 198 rfl) rfl
theorem in_J0 : ∀ w ∈ wsJ00, w ∈ lw_all := lw_in wsJ00 [150, 151, 152, 153, 154] (by decide +kernel) (by decide +kernel)

/-! java/lang/Exception -/
set_option maxRecDepth 100000
def RJ1 : String := "java/lang/Exception"
abbrev cJ1_init : ByteArray := prog_24_method_2_code
def yJ1_init : MethodName := ⟨RJ1, "<init>", "(Ljava/lang/String;)V"⟩
def dkwJ1_init_0 : List UInt8 := [42, 43, 183, 0, 7, 177]
abbrev dktJ1_init_0 : List UInt8 := dkwJ1_init_0 ++ []
theorem dksJ1_init_0 : cJ1_init.data.toList.drop 0 = dktJ1_init_0 := by decide +kernel
theorem dJ1_init_0 : decode cJ1_init 0 = .ok (.aload_n 0, 1) := dk_42 (dk_at dksJ1_init_0 0 rfl rfl)
theorem dJ1_init_1 : decode cJ1_init 1 = .ok (.aload_n 1, 1) := dk_43 (dk_at dksJ1_init_0 1 rfl rfl)
theorem dJ1_init_2 : decode cJ1_init 2 = .ok (.invokespecial 7, 3) := dk_183 0 7 (dk_at dksJ1_init_0 2 rfl rfl)
theorem dJ1_init_5 : decode cJ1_init 5 = .ok (.return_, 1) := dk_177 (dk_at dksJ1_init_0 5 rfl rfl)
abbrev cJ1_init_2 : ByteArray := prog_24_method_1_code
def yJ1_init_2 : MethodName := ⟨RJ1, "<init>", "()V"⟩
theorem dJ1_init_2_0 : decode cJ1_init_2 0 = .ok (.aload_n 0, 1) := by decide +kernel
theorem dJ1_init_2_1 : decode cJ1_init_2 1 = .ok (.invokespecial 1, 3) := by decide +kernel
theorem dJ1_init_2_4 : decode cJ1_init_2 4 = .ok (.return_, 1) := by decide +kernel
theorem q44 : (Jvm.Cond.initialized "java/lang/Exception") ∈ lw_all := lw_g (lw_at lw_m1 6 rfl) rfl
theorem q82 : (Jvm.Cond.instanceMethod ({ cls := "java/lang/Exception", name := "<init>", desc := "(Ljava/lang/String;)V" } : Jvm.MethodName)) ∈ lw_all := lw_g (lw_at lw_m1 44 rfl) rfl
theorem q83 : (Jvm.Cond.code ({ cls := "java/lang/Exception", name := "<init>", desc := "(Ljava/lang/String;)V" } : Jvm.MethodName) prog_24_method_2_code (2 : Nat) (Option.none : Option Jvm.ClassFile.FieldType)) ∈ lw_all := lw_g (lw_at lw_m1 45 rfl) rfl
theorem q84 : (Jvm.Cond.methodLink "java/lang/Exception" (7 : Nat) ({ cls := "java/lang/Throwable", name := "<init>", desc := "(Ljava/lang/String;)V" } : Jvm.MethodName)) ∈ lw_all := lw_g (lw_at lw_m1 46 rfl) rfl
theorem q117 : (Jvm.Cond.superclass "java/lang/Exception" "java/lang/Throwable") ∈ lw_all := lw_g (lw_at lw_m1 79 rfl) rfl
theorem q145 : (Jvm.Cond.declares ({ cls := "java/lang/Exception", name := "<init>", desc := "()V" } : Jvm.MethodName)) ∈ lw_tbl := lw_at lw_m1 107 rfl
theorem q146 : (Jvm.Cond.declares ({ cls := "java/lang/Exception", name := "<init>", desc := "(Ljava/lang/String;)V" } : Jvm.MethodName)) ∈ lw_tbl := lw_at lw_m1 108 rfl
theorem q254 : (Jvm.Cond.instanceMethod ({ cls := "java/lang/Exception", name := "<init>", desc := "()V" } : Jvm.MethodName)) ∈ lw_all := lw_g (lw_at lw_m1 216 rfl) rfl
theorem q255 : (Jvm.Cond.code ({ cls := "java/lang/Exception", name := "<init>", desc := "()V" } : Jvm.MethodName) prog_24_method_1_code (1 : Nat) (Option.none : Option Jvm.ClassFile.FieldType)) ∈ lw_all := lw_g (lw_at lw_m1 217 rfl) rfl
theorem q256 : (Jvm.Cond.methodLink "java/lang/Exception" (1 : Nat) ({ cls := "java/lang/Throwable", name := "<init>", desc := "()V" } : Jvm.MethodName)) ∈ lw_all := lw_g (lw_at lw_m1 218 rfl) rfl

/-! java/lang/ArrayIndexOutOfBoundsException -/
set_option maxRecDepth 100000
def RJ10 : String := "java/lang/ArrayIndexOutOfBoundsException"
def TJ10 : u_T := fun k => match k with
  | 0 => ("java/lang/Throwable", "backtrace", "Ljava/lang/Object;", false)
  | 1 => ("java/lang/Throwable", "detailMessage", "Ljava/lang/String;", false)
  | 2 => ("java/lang/Throwable", "cause", "Ljava/lang/Throwable;", false)
  | 3 => ("java/lang/Throwable", "stackTrace", "[Ljava/lang/StackTraceElement;", false)
  | 4 => ("java/lang/Throwable", "depth", "I", false)
  | _ => ("java/lang/Throwable", "suppressedExceptions", "Ljava/util/List;", false)
def tyJ10 : Nat → FieldType := fun k => match k with
  | 0 => .object "java/lang/Object"
  | 1 => .object "java/lang/String"
  | 2 => .object "java/lang/Throwable"
  | 3 => .array (.object "java/lang/StackTraceElement")
  | 4 => .int
  | _ => .object "java/util/List"
abbrev wsJ100 : List Cond := u_ws RJ10 TJ10 6
theorem nmJ10 : ∀ a, a < 6 → ∀ b, b < 6 → a ≠ b → (TJ10 a).2.1 ≠ (TJ10 b).2.1 := by decide +kernel
theorem tyJ10_ok : ∀ k, k < 6 → parseFieldDescriptor (TJ10 k).2.2.1 = some (tyJ10 k) := by decide +kernel
abbrev cJ10_init : ByteArray := prog_22_method_2_code
def yJ10_init : MethodName := ⟨RJ10, "<init>", "(Ljava/lang/String;)V"⟩
def dkwJ10_init_0 : List UInt8 := [42, 43, 183, 0, 7, 177]
abbrev dktJ10_init_0 : List UInt8 := dkwJ10_init_0 ++ []
theorem dksJ10_init_0 : cJ10_init.data.toList.drop 0 = dktJ10_init_0 := by decide +kernel
theorem dJ10_init_0 : decode cJ10_init 0 = .ok (.aload_n 0, 1) := dk_42 (dk_at dksJ10_init_0 0 rfl rfl)
theorem dJ10_init_1 : decode cJ10_init 1 = .ok (.aload_n 1, 1) := dk_43 (dk_at dksJ10_init_0 1 rfl rfl)
theorem dJ10_init_2 : decode cJ10_init 2 = .ok (.invokespecial 7, 3) := dk_183 0 7 (dk_at dksJ10_init_0 2 rfl rfl)
theorem dJ10_init_5 : decode cJ10_init 5 = .ok (.return_, 1) := dk_177 (dk_at dksJ10_init_0 5 rfl rfl)
theorem q65 : (Jvm.Cond.initialized "java/lang/ArrayIndexOutOfBoundsException") ∈ lw_all := lw_g (lw_at lw_m1 27 rfl) rfl
theorem q99 : (Jvm.Cond.selects "java/lang/ArrayIndexOutOfBoundsException" ({ cls := "java/lang/Throwable", name := "fillInStackTrace", desc := "()Ljava/lang/Throwable;" } : Jvm.MethodName) ({ cls := "java/lang/Throwable", name := "fillInStackTrace", desc := "()Ljava/lang/Throwable;" } : Jvm.MethodName)) ∈ lw_all := lw_g (lw_at lw_m1 61 rfl) rfl
theorem q894 : (Jvm.Cond.instantiable "java/lang/ArrayIndexOutOfBoundsException" (6 : Nat)) ∈ lw_all := lw_g (lw_at lw_m4 136 rfl) rfl
theorem q895 : (Jvm.Cond.instanceMethod ({ cls := "java/lang/ArrayIndexOutOfBoundsException", name := "<init>", desc := "(Ljava/lang/String;)V" } : Jvm.MethodName)) ∈ lw_all := lw_g (lw_at lw_m4 137 rfl) rfl
theorem q896 : (Jvm.Cond.code ({ cls := "java/lang/ArrayIndexOutOfBoundsException", name := "<init>", desc := "(Ljava/lang/String;)V" } : Jvm.MethodName) prog_22_method_2_code (2 : Nat) (Option.none : Option Jvm.ClassFile.FieldType)) ∈ lw_all := lw_g (lw_at lw_m4 138 rfl) rfl
theorem q897 : (Jvm.Cond.methodLink "java/lang/ArrayIndexOutOfBoundsException" (7 : Nat) ({ cls := "java/lang/IndexOutOfBoundsException", name := "<init>", desc := "(Ljava/lang/String;)V" } : Jvm.MethodName)) ∈ lw_all := lw_g (lw_at lw_m4 139 rfl) rfl
theorem q901 : (Jvm.Cond.lays "java/lang/ArrayIndexOutOfBoundsException" "java/lang/Throwable" "backtrace" "Ljava/lang/Object;") ∈ lw_all := lw_g (lw_at lw_m4 143 rfl) rfl
theorem q902 : (Jvm.Cond.lays "java/lang/ArrayIndexOutOfBoundsException" "java/lang/Throwable" "detailMessage" "Ljava/lang/String;") ∈ lw_all := lw_g (lw_at lw_m4 144 rfl) rfl
theorem q903 : (Jvm.Cond.lays "java/lang/ArrayIndexOutOfBoundsException" "java/lang/Throwable" "cause" "Ljava/lang/Throwable;") ∈ lw_all := lw_g (lw_at lw_m4 145 rfl) rfl
theorem q904 : (Jvm.Cond.lays "java/lang/ArrayIndexOutOfBoundsException" "java/lang/Throwable" "stackTrace" "[Ljava/lang/StackTraceElement;") ∈ lw_all := lw_g (lw_at lw_m4 146 rfl) rfl
theorem q905 : (Jvm.Cond.lays "java/lang/ArrayIndexOutOfBoundsException" "java/lang/Throwable" "depth" "I") ∈ lw_all := lw_g (lw_at lw_m4 147 rfl) rfl
theorem q906 : (Jvm.Cond.lays "java/lang/ArrayIndexOutOfBoundsException" "java/lang/Throwable" "suppressedExceptions" "Ljava/util/List;") ∈ lw_all := lw_g (lw_at lw_m4 148 rfl) rfl
theorem q907 : (Jvm.Cond.superclass "java/lang/ArrayIndexOutOfBoundsException" "java/lang/IndexOutOfBoundsException") ∈ lw_all := lw_g (lw_at lw_m4 149 rfl) rfl
theorem q908 : (Jvm.Cond.castable "java/lang/ArrayIndexOutOfBoundsException" "java/lang/ArrayIndexOutOfBoundsException") ∈ lw_tbl := lw_at lw_m4 150 rfl
theorem q911 : (Jvm.Cond.selects "java/lang/ArrayIndexOutOfBoundsException" ({ cls := "java/lang/Throwable", name := "fillInStackTrace", desc := "(I)Ljava/lang/Throwable;" } : Jvm.MethodName) ({ cls := "java/lang/Throwable", name := "fillInStackTrace", desc := "(I)Ljava/lang/Throwable;" } : Jvm.MethodName)) ∈ lw_all := lw_g (lw_at lw_m4 153 rfl) rfl
theorem q1448 : (Jvm.Cond.castable "java/lang/ArrayIndexOutOfBoundsException" "java/lang/IndexOutOfBoundsException") ∈ lw_tbl := lw_at lw_m6 210 rfl
theorem in_J10 : ∀ w ∈ wsJ100, w ∈ lw_all := lw_in wsJ100 [901, 902, 903, 904, 905, 906] (by decide +kernel) (by decide +kernel)

/-! java/lang/NullPointerException -/
set_option maxRecDepth 100000
def RJ11 : String := "java/lang/NullPointerException"
def TJ11 : u_T := fun k => match k with
  | 0 => ("java/lang/Throwable", "backtrace", "Ljava/lang/Object;", false)
  | 1 => ("java/lang/Throwable", "detailMessage", "Ljava/lang/String;", false)
  | 2 => ("java/lang/Throwable", "cause", "Ljava/lang/Throwable;", false)
  | 3 => ("java/lang/Throwable", "stackTrace", "[Ljava/lang/StackTraceElement;", false)
  | 4 => ("java/lang/Throwable", "depth", "I", false)
  | 5 => ("java/lang/Throwable", "suppressedExceptions", "Ljava/util/List;", false)
  | 6 => ("java/lang/NullPointerException", "extendedMessageState", "I", false)
  | _ => ("java/lang/NullPointerException", "extendedMessage", "Ljava/lang/String;", false)
def tyJ11 : Nat → FieldType := fun k => match k with
  | 0 => .object "java/lang/Object"
  | 1 => .object "java/lang/String"
  | 2 => .object "java/lang/Throwable"
  | 3 => .array (.object "java/lang/StackTraceElement")
  | 4 => .int
  | 5 => .object "java/util/List"
  | 6 => .int
  | _ => .object "java/lang/String"
abbrev wsJ110 : List Cond := u_ws RJ11 TJ11 8
theorem nmJ11 : ∀ a, a < 8 → ∀ b, b < 8 → a ≠ b → (TJ11 a).2.1 ≠ (TJ11 b).2.1 := by decide +kernel
theorem tyJ11_ok : ∀ k, k < 8 → parseFieldDescriptor (TJ11 k).2.2.1 = some (tyJ11 k) := by decide +kernel
abbrev cJ11_init : ByteArray := prog_31_method_1_code
def yJ11_init : MethodName := ⟨RJ11, "<init>", "()V"⟩
theorem dJ11_init_0 : decode cJ11_init 0 = .ok (.aload_n 0, 1) := by decide +kernel
theorem dJ11_init_1 : decode cJ11_init 1 = .ok (.invokespecial 1, 3) := by decide +kernel
theorem dJ11_init_4 : decode cJ11_init 4 = .ok (.return_, 1) := by decide +kernel
theorem q66 : (Jvm.Cond.initialized "java/lang/NullPointerException") ∈ lw_all := lw_g (lw_at lw_m1 28 rfl) rfl
theorem q104 : (Jvm.Cond.selects "java/lang/NullPointerException" ({ cls := "java/lang/Throwable", name := "fillInStackTrace", desc := "()Ljava/lang/Throwable;" } : Jvm.MethodName) ({ cls := "java/lang/NullPointerException", name := "fillInStackTrace", desc := "()Ljava/lang/Throwable;" } : Jvm.MethodName)) ∈ lw_all := lw_g (lw_at lw_m1 66 rfl) rfl
theorem q105 : (Jvm.Cond.instanceMethod ({ cls := "java/lang/NullPointerException", name := "fillInStackTrace", desc := "()Ljava/lang/Throwable;" } : Jvm.MethodName)) ∈ lw_all := lw_g (lw_at lw_m1 67 rfl) rfl
theorem q106 : (Jvm.Cond.codeSync ({ cls := "java/lang/NullPointerException", name := "fillInStackTrace", desc := "()Ljava/lang/Throwable;" } : Jvm.MethodName) prog_31_method_3_code (1 : Nat) (Option.some (Jvm.ClassFile.FieldType.object "java/lang/Throwable"))) ∈ lw_all := lw_g (lw_at lw_m1 68 rfl) rfl
theorem q107 : (Jvm.Cond.methodLink "java/lang/NullPointerException" (16 : Nat) ({ cls := "java/lang/NullPointerException", name := "getExtendedNPEMessage", desc := "()Ljava/lang/String;" } : Jvm.MethodName)) ∈ lw_all := lw_g (lw_at lw_m1 69 rfl) rfl
theorem q108 : (Jvm.Cond.privateMethod ({ cls := "java/lang/NullPointerException", name := "getExtendedNPEMessage", desc := "()Ljava/lang/String;" } : Jvm.MethodName)) ∈ lw_tbl := lw_at lw_m1 70 rfl
theorem q109 : (Jvm.Cond.instanceMethod ({ cls := "java/lang/NullPointerException", name := "getExtendedNPEMessage", desc := "()Ljava/lang/String;" } : Jvm.MethodName)) ∈ lw_all := lw_g (lw_at lw_m1 71 rfl) rfl
theorem q110 : (Jvm.Cond.instantiable "java/lang/NullPointerException" (8 : Nat)) ∈ lw_all := lw_g (lw_at lw_m1 72 rfl) rfl
theorem q111 : (Jvm.Cond.native ({ cls := "java/lang/NullPointerException", name := "getExtendedNPEMessage", desc := "()Ljava/lang/String;" } : Jvm.MethodName)) ∈ lw_all := lw_g (lw_at lw_m1 73 rfl) rfl
theorem q112 : (Jvm.Cond.methodLink "java/lang/NullPointerException" (24 : Nat) ({ cls := "java/lang/RuntimeException", name := "fillInStackTrace", desc := "()Ljava/lang/Throwable;" } : Jvm.MethodName)) ∈ lw_all := lw_g (lw_at lw_m1 74 rfl) rfl
theorem q115 : (Jvm.Cond.superclass "java/lang/NullPointerException" "java/lang/RuntimeException") ∈ lw_all := lw_g (lw_at lw_m1 77 rfl) rfl
theorem q923 : (Jvm.Cond.instanceMethod ({ cls := "java/lang/NullPointerException", name := "<init>", desc := "()V" } : Jvm.MethodName)) ∈ lw_all := lw_g (lw_at lw_m4 165 rfl) rfl
theorem q924 : (Jvm.Cond.code ({ cls := "java/lang/NullPointerException", name := "<init>", desc := "()V" } : Jvm.MethodName) prog_31_method_1_code (1 : Nat) (Option.none : Option Jvm.ClassFile.FieldType)) ∈ lw_all := lw_g (lw_at lw_m4 166 rfl) rfl
theorem q925 : (Jvm.Cond.methodLink "java/lang/NullPointerException" (1 : Nat) ({ cls := "java/lang/RuntimeException", name := "<init>", desc := "()V" } : Jvm.MethodName)) ∈ lw_all := lw_g (lw_at lw_m4 167 rfl) rfl
theorem q929 : (Jvm.Cond.fieldLink "java/lang/NullPointerException" (10 : Nat) "java/lang/NullPointerException" "extendedMessageState" "I") ∈ lw_all := lw_g (lw_at lw_m4 171 rfl) rfl
theorem q930 : (Jvm.Cond.fieldLink "java/lang/NullPointerException" (20 : Nat) "java/lang/NullPointerException" "extendedMessage" "Ljava/lang/String;") ∈ lw_all := lw_g (lw_at lw_m4 172 rfl) rfl
theorem q931 : (Jvm.Cond.lays "java/lang/NullPointerException" "java/lang/NullPointerException" "extendedMessageState" "I") ∈ lw_all := lw_g (lw_at lw_m4 173 rfl) rfl
theorem q932 : (Jvm.Cond.soleField "java/lang/NullPointerException" "extendedMessageState") ∈ lw_all := lw_g (lw_at lw_m4 174 rfl) rfl
theorem q933 : (Jvm.Cond.lays "java/lang/NullPointerException" "java/lang/NullPointerException" "extendedMessage" "Ljava/lang/String;") ∈ lw_all := lw_g (lw_at lw_m4 175 rfl) rfl
theorem q934 : (Jvm.Cond.soleField "java/lang/NullPointerException" "extendedMessage") ∈ lw_all := lw_g (lw_at lw_m4 176 rfl) rfl
theorem q935 : (Jvm.Cond.lays "java/lang/NullPointerException" "java/lang/Throwable" "backtrace" "Ljava/lang/Object;") ∈ lw_all := lw_g (lw_at lw_m4 177 rfl) rfl
theorem q936 : (Jvm.Cond.lays "java/lang/NullPointerException" "java/lang/Throwable" "detailMessage" "Ljava/lang/String;") ∈ lw_all := lw_g (lw_at lw_m4 178 rfl) rfl
theorem q937 : (Jvm.Cond.lays "java/lang/NullPointerException" "java/lang/Throwable" "cause" "Ljava/lang/Throwable;") ∈ lw_all := lw_g (lw_at lw_m4 179 rfl) rfl
theorem q938 : (Jvm.Cond.lays "java/lang/NullPointerException" "java/lang/Throwable" "stackTrace" "[Ljava/lang/StackTraceElement;") ∈ lw_all := lw_g (lw_at lw_m4 180 rfl) rfl
theorem q939 : (Jvm.Cond.lays "java/lang/NullPointerException" "java/lang/Throwable" "depth" "I") ∈ lw_all := lw_g (lw_at lw_m4 181 rfl) rfl
theorem q940 : (Jvm.Cond.lays "java/lang/NullPointerException" "java/lang/Throwable" "suppressedExceptions" "Ljava/util/List;") ∈ lw_all := lw_g (lw_at lw_m4 182 rfl) rfl
theorem q941 : (Jvm.Cond.castable "java/lang/NullPointerException" "java/lang/NullPointerException") ∈ lw_tbl := lw_at lw_m4 183 rfl
theorem q942 : (Jvm.Cond.selects "java/lang/NullPointerException" ({ cls := "java/lang/Throwable", name := "fillInStackTrace", desc := "(I)Ljava/lang/Throwable;" } : Jvm.MethodName) ({ cls := "java/lang/Throwable", name := "fillInStackTrace", desc := "(I)Ljava/lang/Throwable;" } : Jvm.MethodName)) ∈ lw_all := lw_g (lw_at lw_m4 184 rfl) rfl
theorem in_J11 : ∀ w ∈ wsJ110, w ∈ lw_all := lw_in wsJ110 [935, 936, 937, 938, 939, 940, 931, 933] (by decide +kernel) (by decide +kernel)

/-! java/lang/IllegalArgumentException -/
set_option maxRecDepth 100000
def RJ12 : String := "java/lang/IllegalArgumentException"
def TJ12 : u_T := fun k => match k with
  | 0 => ("java/lang/Throwable", "cause", "Ljava/lang/Throwable;", false)
  | 1 => ("java/lang/Throwable", "stackTrace", "[Ljava/lang/StackTraceElement;", false)
  | 2 => ("java/lang/Throwable", "suppressedExceptions", "Ljava/util/List;", false)
  | 3 => ("java/lang/Throwable", "detailMessage", "Ljava/lang/String;", false)
  | 4 => ("java/lang/Throwable", "backtrace", "Ljava/lang/Object;", false)
  | _ => ("java/lang/Throwable", "depth", "I", false)
def tyJ12 : Nat → FieldType := fun k => match k with
  | 0 => .object "java/lang/Throwable"
  | 1 => .array (.object "java/lang/StackTraceElement")
  | 2 => .object "java/util/List"
  | 3 => .object "java/lang/String"
  | 4 => .object "java/lang/Object"
  | _ => .int
abbrev wsJ120 : List Cond := u_ws RJ12 TJ12 6
theorem nmJ12 : ∀ a, a < 6 → ∀ b, b < 6 → a ≠ b → (TJ12 a).2.1 ≠ (TJ12 b).2.1 := by decide +kernel
theorem tyJ12_ok : ∀ k, k < 6 → parseFieldDescriptor (TJ12 k).2.2.1 = some (tyJ12 k) := by decide +kernel
abbrev cJ12_init : ByteArray := prog_25_method_1_code
def yJ12_init : MethodName := ⟨RJ12, "<init>", "()V"⟩
theorem dJ12_init_0 : decode cJ12_init 0 = .ok (.aload_n 0, 1) := by decide +kernel
theorem dJ12_init_1 : decode cJ12_init 1 = .ok (.invokespecial 1, 3) := by decide +kernel
theorem dJ12_init_4 : decode cJ12_init 4 = .ok (.return_, 1) := by decide +kernel
theorem q67 : (Jvm.Cond.initialized "java/lang/IllegalArgumentException") ∈ lw_all := lw_g (lw_at lw_m1 29 rfl) rfl
theorem q101 : (Jvm.Cond.selects "java/lang/IllegalArgumentException" ({ cls := "java/lang/Throwable", name := "fillInStackTrace", desc := "()Ljava/lang/Throwable;" } : Jvm.MethodName) ({ cls := "java/lang/Throwable", name := "fillInStackTrace", desc := "()Ljava/lang/Throwable;" } : Jvm.MethodName)) ∈ lw_all := lw_g (lw_at lw_m1 63 rfl) rfl
theorem q1038 : (Jvm.Cond.instantiable "java/lang/IllegalArgumentException" (6 : Nat)) ∈ lw_all := lw_g (lw_at lw_m5 40 rfl) rfl
theorem q1039 : (Jvm.Cond.castable "java/lang/IllegalArgumentException" "java/lang/IllegalArgumentException") ∈ lw_tbl := lw_at lw_m5 41 rfl
theorem q1040 : (Jvm.Cond.selects "java/lang/IllegalArgumentException" ({ cls := "java/lang/Throwable", name := "fillInStackTrace", desc := "(I)Ljava/lang/Throwable;" } : Jvm.MethodName) ({ cls := "java/lang/Throwable", name := "fillInStackTrace", desc := "(I)Ljava/lang/Throwable;" } : Jvm.MethodName)) ∈ lw_all := lw_g (lw_at lw_m5 42 rfl) rfl
theorem q1041 : (Jvm.Cond.lays "java/lang/IllegalArgumentException" "java/lang/Throwable" "cause" "Ljava/lang/Throwable;") ∈ lw_all := lw_g (lw_at lw_m5 43 rfl) rfl
theorem q1042 : (Jvm.Cond.lays "java/lang/IllegalArgumentException" "java/lang/Throwable" "stackTrace" "[Ljava/lang/StackTraceElement;") ∈ lw_all := lw_g (lw_at lw_m5 44 rfl) rfl
theorem q1043 : (Jvm.Cond.lays "java/lang/IllegalArgumentException" "java/lang/Throwable" "suppressedExceptions" "Ljava/util/List;") ∈ lw_all := lw_g (lw_at lw_m5 45 rfl) rfl
theorem q1044 : (Jvm.Cond.lays "java/lang/IllegalArgumentException" "java/lang/Throwable" "detailMessage" "Ljava/lang/String;") ∈ lw_all := lw_g (lw_at lw_m5 46 rfl) rfl
theorem q1045 : (Jvm.Cond.lays "java/lang/IllegalArgumentException" "java/lang/Throwable" "backtrace" "Ljava/lang/Object;") ∈ lw_all := lw_g (lw_at lw_m5 47 rfl) rfl
theorem q1047 : (Jvm.Cond.instanceMethod ({ cls := "java/lang/IllegalArgumentException", name := "<init>", desc := "()V" } : Jvm.MethodName)) ∈ lw_all := lw_g (lw_at lw_m5 49 rfl) rfl
theorem q1048 : (Jvm.Cond.code ({ cls := "java/lang/IllegalArgumentException", name := "<init>", desc := "()V" } : Jvm.MethodName) prog_25_method_1_code (1 : Nat) (Option.none : Option Jvm.ClassFile.FieldType)) ∈ lw_all := lw_g (lw_at lw_m5 50 rfl) rfl
theorem q1049 : (Jvm.Cond.methodLink "java/lang/IllegalArgumentException" (1 : Nat) ({ cls := "java/lang/RuntimeException", name := "<init>", desc := "()V" } : Jvm.MethodName)) ∈ lw_all := lw_g (lw_at lw_m5 51 rfl) rfl
theorem q1050 : (Jvm.Cond.lays "java/lang/IllegalArgumentException" "java/lang/Throwable" "depth" "I") ∈ lw_all := lw_g (lw_at lw_m5 52 rfl) rfl
theorem q1051 : (Jvm.Cond.superclass "java/lang/IllegalArgumentException" "java/lang/RuntimeException") ∈ lw_all := lw_g (lw_at lw_m5 53 rfl) rfl
theorem in_J12 : ∀ w ∈ wsJ120, w ∈ lw_all := lw_in wsJ120 [1041, 1042, 1043, 1044, 1045, 1050] (by decide +kernel) (by decide +kernel)

/-! java/lang/IllegalStateException -/
set_option maxRecDepth 100000
def RJ13 : String := "java/lang/IllegalStateException"
def TJ13 : u_T := fun k => match k with
  | 0 => ("java/lang/Throwable", "cause", "Ljava/lang/Throwable;", false)
  | 1 => ("java/lang/Throwable", "stackTrace", "[Ljava/lang/StackTraceElement;", false)
  | 2 => ("java/lang/Throwable", "suppressedExceptions", "Ljava/util/List;", false)
  | 3 => ("java/lang/Throwable", "detailMessage", "Ljava/lang/String;", false)
  | 4 => ("java/lang/Throwable", "backtrace", "Ljava/lang/Object;", false)
  | _ => ("java/lang/Throwable", "depth", "I", false)
def tyJ13 : Nat → FieldType := fun k => match k with
  | 0 => .object "java/lang/Throwable"
  | 1 => .array (.object "java/lang/StackTraceElement")
  | 2 => .object "java/util/List"
  | 3 => .object "java/lang/String"
  | 4 => .object "java/lang/Object"
  | _ => .int
abbrev wsJ130 : List Cond := u_ws RJ13 TJ13 6
theorem nmJ13 : ∀ a, a < 6 → ∀ b, b < 6 → a ≠ b → (TJ13 a).2.1 ≠ (TJ13 b).2.1 := by decide +kernel
theorem tyJ13_ok : ∀ k, k < 6 → parseFieldDescriptor (TJ13 k).2.2.1 = some (tyJ13 k) := by decide +kernel
abbrev cJ13_init : ByteArray := prog_26_method_1_code
def yJ13_init : MethodName := ⟨RJ13, "<init>", "()V"⟩
theorem dJ13_init_0 : decode cJ13_init 0 = .ok (.aload_n 0, 1) := by decide +kernel
theorem dJ13_init_1 : decode cJ13_init 1 = .ok (.invokespecial 1, 3) := by decide +kernel
theorem dJ13_init_4 : decode cJ13_init 4 = .ok (.return_, 1) := by decide +kernel
theorem q68 : (Jvm.Cond.initialized "java/lang/IllegalStateException") ∈ lw_all := lw_g (lw_at lw_m1 30 rfl) rfl
theorem q102 : (Jvm.Cond.selects "java/lang/IllegalStateException" ({ cls := "java/lang/Throwable", name := "fillInStackTrace", desc := "()Ljava/lang/Throwable;" } : Jvm.MethodName) ({ cls := "java/lang/Throwable", name := "fillInStackTrace", desc := "()Ljava/lang/Throwable;" } : Jvm.MethodName)) ∈ lw_all := lw_g (lw_at lw_m1 64 rfl) rfl
theorem q1053 : (Jvm.Cond.instantiable "java/lang/IllegalStateException" (6 : Nat)) ∈ lw_all := lw_g (lw_at lw_m5 55 rfl) rfl
theorem q1054 : (Jvm.Cond.castable "java/lang/IllegalStateException" "java/lang/IllegalStateException") ∈ lw_tbl := lw_at lw_m5 56 rfl
theorem q1055 : (Jvm.Cond.selects "java/lang/IllegalStateException" ({ cls := "java/lang/Throwable", name := "fillInStackTrace", desc := "(I)Ljava/lang/Throwable;" } : Jvm.MethodName) ({ cls := "java/lang/Throwable", name := "fillInStackTrace", desc := "(I)Ljava/lang/Throwable;" } : Jvm.MethodName)) ∈ lw_all := lw_g (lw_at lw_m5 57 rfl) rfl
theorem q1056 : (Jvm.Cond.lays "java/lang/IllegalStateException" "java/lang/Throwable" "cause" "Ljava/lang/Throwable;") ∈ lw_all := lw_g (lw_at lw_m5 58 rfl) rfl
theorem q1057 : (Jvm.Cond.lays "java/lang/IllegalStateException" "java/lang/Throwable" "stackTrace" "[Ljava/lang/StackTraceElement;") ∈ lw_all := lw_g (lw_at lw_m5 59 rfl) rfl
theorem q1058 : (Jvm.Cond.lays "java/lang/IllegalStateException" "java/lang/Throwable" "suppressedExceptions" "Ljava/util/List;") ∈ lw_all := lw_g (lw_at lw_m5 60 rfl) rfl
theorem q1059 : (Jvm.Cond.lays "java/lang/IllegalStateException" "java/lang/Throwable" "detailMessage" "Ljava/lang/String;") ∈ lw_all := lw_g (lw_at lw_m5 61 rfl) rfl
theorem q1060 : (Jvm.Cond.lays "java/lang/IllegalStateException" "java/lang/Throwable" "backtrace" "Ljava/lang/Object;") ∈ lw_all := lw_g (lw_at lw_m5 62 rfl) rfl
theorem q1062 : (Jvm.Cond.instanceMethod ({ cls := "java/lang/IllegalStateException", name := "<init>", desc := "()V" } : Jvm.MethodName)) ∈ lw_all := lw_g (lw_at lw_m5 64 rfl) rfl
theorem q1063 : (Jvm.Cond.code ({ cls := "java/lang/IllegalStateException", name := "<init>", desc := "()V" } : Jvm.MethodName) prog_26_method_1_code (1 : Nat) (Option.none : Option Jvm.ClassFile.FieldType)) ∈ lw_all := lw_g (lw_at lw_m5 65 rfl) rfl
theorem q1064 : (Jvm.Cond.methodLink "java/lang/IllegalStateException" (1 : Nat) ({ cls := "java/lang/RuntimeException", name := "<init>", desc := "()V" } : Jvm.MethodName)) ∈ lw_all := lw_g (lw_at lw_m5 66 rfl) rfl
theorem q1065 : (Jvm.Cond.lays "java/lang/IllegalStateException" "java/lang/Throwable" "depth" "I") ∈ lw_all := lw_g (lw_at lw_m5 67 rfl) rfl
theorem q1066 : (Jvm.Cond.superclass "java/lang/IllegalStateException" "java/lang/RuntimeException") ∈ lw_all := lw_g (lw_at lw_m5 68 rfl) rfl
theorem in_J13 : ∀ w ∈ wsJ130, w ∈ lw_all := lw_in wsJ130 [1056, 1057, 1058, 1059, 1060, 1065] (by decide +kernel) (by decide +kernel)

/-! java/lang/Object -/
set_option maxRecDepth 100000
def RJ14 : String := "java/lang/Object"
abbrev cJ14_init : ByteArray := object_method_1_code
def yJ14_init : MethodName := ⟨RJ14, "<init>", "()V"⟩
theorem dJ14_init_0 : decode cJ14_init 0 = .ok (.return_, 1) := by decide +kernel
theorem q88 : (Jvm.Cond.instanceMethod ({ cls := "java/lang/Object", name := "<init>", desc := "()V" } : Jvm.MethodName)) ∈ lw_all := lw_g (lw_at lw_m1 50 rfl) rfl
theorem q89 : (Jvm.Cond.code ({ cls := "java/lang/Object", name := "<init>", desc := "()V" } : Jvm.MethodName) object_method_1_code (1 : Nat) (Option.none : Option Jvm.ClassFile.FieldType)) ∈ lw_all := lw_g (lw_at lw_m1 51 rfl) rfl

/-! java/lang/RuntimeException -/
set_option maxRecDepth 100000
def RJ2 : String := "java/lang/RuntimeException"
abbrev cJ2_init : ByteArray := prog_32_method_2_code
def yJ2_init : MethodName := ⟨RJ2, "<init>", "(Ljava/lang/String;)V"⟩
def dkwJ2_init_0 : List UInt8 := [42, 43, 183, 0, 7, 177]
abbrev dktJ2_init_0 : List UInt8 := dkwJ2_init_0 ++ []
theorem dksJ2_init_0 : cJ2_init.data.toList.drop 0 = dktJ2_init_0 := by decide +kernel
theorem dJ2_init_0 : decode cJ2_init 0 = .ok (.aload_n 0, 1) := dk_42 (dk_at dksJ2_init_0 0 rfl rfl)
theorem dJ2_init_1 : decode cJ2_init 1 = .ok (.aload_n 1, 1) := dk_43 (dk_at dksJ2_init_0 1 rfl rfl)
theorem dJ2_init_2 : decode cJ2_init 2 = .ok (.invokespecial 7, 3) := dk_183 0 7 (dk_at dksJ2_init_0 2 rfl rfl)
theorem dJ2_init_5 : decode cJ2_init 5 = .ok (.return_, 1) := dk_177 (dk_at dksJ2_init_0 5 rfl rfl)
abbrev cJ2_init_2 : ByteArray := prog_32_method_1_code
def yJ2_init_2 : MethodName := ⟨RJ2, "<init>", "()V"⟩
theorem dJ2_init_2_0 : decode cJ2_init_2 0 = .ok (.aload_n 0, 1) := by decide +kernel
theorem dJ2_init_2_1 : decode cJ2_init_2 1 = .ok (.invokespecial 1, 3) := by decide +kernel
theorem dJ2_init_2_4 : decode cJ2_init_2 4 = .ok (.return_, 1) := by decide +kernel
theorem q45 : (Jvm.Cond.initialized "java/lang/RuntimeException") ∈ lw_all := lw_g (lw_at lw_m1 7 rfl) rfl
theorem q79 : (Jvm.Cond.instanceMethod ({ cls := "java/lang/RuntimeException", name := "<init>", desc := "(Ljava/lang/String;)V" } : Jvm.MethodName)) ∈ lw_all := lw_g (lw_at lw_m1 41 rfl) rfl
theorem q80 : (Jvm.Cond.code ({ cls := "java/lang/RuntimeException", name := "<init>", desc := "(Ljava/lang/String;)V" } : Jvm.MethodName) prog_32_method_2_code (2 : Nat) (Option.none : Option Jvm.ClassFile.FieldType)) ∈ lw_all := lw_g (lw_at lw_m1 42 rfl) rfl
theorem q81 : (Jvm.Cond.methodLink "java/lang/RuntimeException" (7 : Nat) ({ cls := "java/lang/Exception", name := "<init>", desc := "(Ljava/lang/String;)V" } : Jvm.MethodName)) ∈ lw_all := lw_g (lw_at lw_m1 43 rfl) rfl
theorem q113 : (Jvm.Cond.sameMethod "java/lang/RuntimeException" "java/lang/Throwable" "fillInStackTrace" "()Ljava/lang/Throwable;") ∈ lw_all := lw_g (lw_at lw_m1 75 rfl) rfl
theorem q116 : (Jvm.Cond.superclass "java/lang/RuntimeException" "java/lang/Exception") ∈ lw_all := lw_g (lw_at lw_m1 78 rfl) rfl
theorem q143 : (Jvm.Cond.declares ({ cls := "java/lang/RuntimeException", name := "<init>", desc := "()V" } : Jvm.MethodName)) ∈ lw_tbl := lw_at lw_m1 105 rfl
theorem q144 : (Jvm.Cond.declares ({ cls := "java/lang/RuntimeException", name := "<init>", desc := "(Ljava/lang/String;)V" } : Jvm.MethodName)) ∈ lw_tbl := lw_at lw_m1 106 rfl
theorem q926 : (Jvm.Cond.instanceMethod ({ cls := "java/lang/RuntimeException", name := "<init>", desc := "()V" } : Jvm.MethodName)) ∈ lw_all := lw_g (lw_at lw_m4 168 rfl) rfl
theorem q927 : (Jvm.Cond.code ({ cls := "java/lang/RuntimeException", name := "<init>", desc := "()V" } : Jvm.MethodName) prog_32_method_1_code (1 : Nat) (Option.none : Option Jvm.ClassFile.FieldType)) ∈ lw_all := lw_g (lw_at lw_m4 169 rfl) rfl
theorem q928 : (Jvm.Cond.methodLink "java/lang/RuntimeException" (1 : Nat) ({ cls := "java/lang/Exception", name := "<init>", desc := "()V" } : Jvm.MethodName)) ∈ lw_all := lw_g (lw_at lw_m4 170 rfl) rfl
theorem q943 : (Jvm.Cond.castable "java/lang/RuntimeException" "java/lang/Throwable") ∈ lw_tbl := lw_at lw_m4 185 rfl

/-! java/lang/ClassCastException -/
set_option maxRecDepth 100000
def RJ3 : String := "java/lang/ClassCastException"
def TJ3 : u_T := fun k => match k with
  | 0 => ("java/lang/Throwable", "backtrace", "Ljava/lang/Object;", false)
  | 1 => ("java/lang/Throwable", "detailMessage", "Ljava/lang/String;", false)
  | 2 => ("java/lang/Throwable", "cause", "Ljava/lang/Throwable;", false)
  | 3 => ("java/lang/Throwable", "stackTrace", "[Ljava/lang/StackTraceElement;", false)
  | 4 => ("java/lang/Throwable", "depth", "I", false)
  | _ => ("java/lang/Throwable", "suppressedExceptions", "Ljava/util/List;", false)
def tyJ3 : Nat → FieldType := fun k => match k with
  | 0 => .object "java/lang/Object"
  | 1 => .object "java/lang/String"
  | 2 => .object "java/lang/Throwable"
  | 3 => .array (.object "java/lang/StackTraceElement")
  | 4 => .int
  | _ => .object "java/util/List"
abbrev wsJ30 : List Cond := u_ws RJ3 TJ3 6
theorem nmJ3 : ∀ a, a < 6 → ∀ b, b < 6 → a ≠ b → (TJ3 a).2.1 ≠ (TJ3 b).2.1 := by decide +kernel
theorem tyJ3_ok : ∀ k, k < 6 → parseFieldDescriptor (TJ3 k).2.2.1 = some (tyJ3 k) := by decide +kernel
abbrev cJ3_init : ByteArray := prog_23_method_2_code
def yJ3_init : MethodName := ⟨RJ3, "<init>", "(Ljava/lang/String;)V"⟩
def dkwJ3_init_0 : List UInt8 := [42, 43, 183, 0, 7, 177]
abbrev dktJ3_init_0 : List UInt8 := dkwJ3_init_0 ++ []
theorem dksJ3_init_0 : cJ3_init.data.toList.drop 0 = dktJ3_init_0 := by decide +kernel
theorem dJ3_init_0 : decode cJ3_init 0 = .ok (.aload_n 0, 1) := dk_42 (dk_at dksJ3_init_0 0 rfl rfl)
theorem dJ3_init_1 : decode cJ3_init 1 = .ok (.aload_n 1, 1) := dk_43 (dk_at dksJ3_init_0 1 rfl rfl)
theorem dJ3_init_2 : decode cJ3_init 2 = .ok (.invokespecial 7, 3) := dk_183 0 7 (dk_at dksJ3_init_0 2 rfl rfl)
theorem dJ3_init_5 : decode cJ3_init 5 = .ok (.return_, 1) := dk_177 (dk_at dksJ3_init_0 5 rfl rfl)
theorem q46 : (Jvm.Cond.initialized "java/lang/ClassCastException") ∈ lw_all := lw_g (lw_at lw_m1 8 rfl) rfl
theorem q75 : (Jvm.Cond.instantiable "java/lang/ClassCastException" (6 : Nat)) ∈ lw_all := lw_g (lw_at lw_m1 37 rfl) rfl
theorem q76 : (Jvm.Cond.instanceMethod ({ cls := "java/lang/ClassCastException", name := "<init>", desc := "(Ljava/lang/String;)V" } : Jvm.MethodName)) ∈ lw_all := lw_g (lw_at lw_m1 38 rfl) rfl
theorem q77 : (Jvm.Cond.code ({ cls := "java/lang/ClassCastException", name := "<init>", desc := "(Ljava/lang/String;)V" } : Jvm.MethodName) prog_23_method_2_code (2 : Nat) (Option.none : Option Jvm.ClassFile.FieldType)) ∈ lw_all := lw_g (lw_at lw_m1 39 rfl) rfl
theorem q78 : (Jvm.Cond.methodLink "java/lang/ClassCastException" (7 : Nat) ({ cls := "java/lang/RuntimeException", name := "<init>", desc := "(Ljava/lang/String;)V" } : Jvm.MethodName)) ∈ lw_all := lw_g (lw_at lw_m1 40 rfl) rfl
theorem q100 : (Jvm.Cond.selects "java/lang/ClassCastException" ({ cls := "java/lang/Throwable", name := "fillInStackTrace", desc := "()Ljava/lang/Throwable;" } : Jvm.MethodName) ({ cls := "java/lang/Throwable", name := "fillInStackTrace", desc := "()Ljava/lang/Throwable;" } : Jvm.MethodName)) ∈ lw_all := lw_g (lw_at lw_m1 62 rfl) rfl
theorem q129 : (Jvm.Cond.lays "java/lang/ClassCastException" "java/lang/Throwable" "backtrace" "Ljava/lang/Object;") ∈ lw_all := lw_g (lw_at lw_m1 91 rfl) rfl
theorem q131 : (Jvm.Cond.lays "java/lang/ClassCastException" "java/lang/Throwable" "detailMessage" "Ljava/lang/String;") ∈ lw_all := lw_g (lw_at lw_m1 93 rfl) rfl
theorem q133 : (Jvm.Cond.lays "java/lang/ClassCastException" "java/lang/Throwable" "cause" "Ljava/lang/Throwable;") ∈ lw_all := lw_g (lw_at lw_m1 95 rfl) rfl
theorem q135 : (Jvm.Cond.lays "java/lang/ClassCastException" "java/lang/Throwable" "stackTrace" "[Ljava/lang/StackTraceElement;") ∈ lw_all := lw_g (lw_at lw_m1 97 rfl) rfl
theorem q137 : (Jvm.Cond.lays "java/lang/ClassCastException" "java/lang/Throwable" "depth" "I") ∈ lw_all := lw_g (lw_at lw_m1 99 rfl) rfl
theorem q139 : (Jvm.Cond.lays "java/lang/ClassCastException" "java/lang/Throwable" "suppressedExceptions" "Ljava/util/List;") ∈ lw_all := lw_g (lw_at lw_m1 101 rfl) rfl
theorem q141 : (Jvm.Cond.superclass "java/lang/ClassCastException" "java/lang/RuntimeException") ∈ lw_all := lw_g (lw_at lw_m1 103 rfl) rfl
theorem q142 : (Jvm.Cond.castable "java/lang/ClassCastException" "java/lang/ClassCastException") ∈ lw_tbl := lw_at lw_m1 104 rfl
theorem q149 : (Jvm.Cond.selects "java/lang/ClassCastException" ({ cls := "java/lang/Throwable", name := "fillInStackTrace", desc := "(I)Ljava/lang/Throwable;" } : Jvm.MethodName) ({ cls := "java/lang/Throwable", name := "fillInStackTrace", desc := "(I)Ljava/lang/Throwable;" } : Jvm.MethodName)) ∈ lw_all := lw_g (lw_at lw_m1 111 rfl) rfl
theorem in_J3 : ∀ w ∈ wsJ30, w ∈ lw_all := lw_in wsJ30 [129, 131, 133, 135, 137, 139] (by decide +kernel) (by decide +kernel)

/-! java/lang/String -/
set_option maxRecDepth 100000
def RJ4 : String := "java/lang/String"
def TJ4 : u_T := fun k => match k with
  | 0 => ("java/lang/String", "value", "[B", true)
  | _ => ("java/lang/String", "coder", "B", true)
def tyJ4 : Nat → FieldType := fun k => match k with
  | 0 => .array .byte
  | _ => .byte
abbrev wsJ40 : List Cond := u_ws RJ4 TJ4 2
theorem nmJ4 : ∀ a, a < 2 → ∀ b, b < 2 → a ≠ b → (TJ4 a).2.1 ≠ (TJ4 b).2.1 := by decide +kernel
theorem tyJ4_ok : ∀ k, k < 2 → parseFieldDescriptor (TJ4 k).2.2.1 = some (tyJ4 k) := by decide +kernel
theorem q47 : (Jvm.Cond.initialized "java/lang/String") ∈ lw_all := lw_g (lw_at lw_m1 9 rfl) rfl
theorem q159 : (Jvm.Cond.instantiable "java/lang/String" (4 : Nat)) ∈ lw_all := lw_g (lw_at lw_m1 121 rfl) rfl
theorem q161 : (Jvm.Cond.laysFinal "java/lang/String" "java/lang/String" "value" "[B") ∈ lw_all := lw_g (lw_at lw_m1 123 rfl) rfl
theorem q162 : (Jvm.Cond.soleField "java/lang/String" "value") ∈ lw_all := lw_g (lw_at lw_m1 124 rfl) rfl
theorem q163 : (Jvm.Cond.laysFinal "java/lang/String" "java/lang/String" "coder" "B") ∈ lw_all := lw_g (lw_at lw_m1 125 rfl) rfl
theorem q164 : (Jvm.Cond.soleField "java/lang/String" "coder") ∈ lw_all := lw_g (lw_at lw_m1 126 rfl) rfl
theorem in_J4 : ∀ w ∈ wsJ40, w ∈ lw_all := lw_in wsJ40 [161, 163] (by decide +kernel) (by decide +kernel)

/-! java/lang/Math -/
set_option maxRecDepth 100000
def RJ5 : String := "java/lang/Math"
abbrev cJ5_min : ByteArray := prog_29_method_69_code
def yJ5_min : MethodName := ⟨RJ5, "min", "(II)I"⟩
def dkwJ5_min_0 : List UInt8 := [26, 27, 163, 0, 7, 26, 167, 0, 4, 27, 172]
abbrev dktJ5_min_0 : List UInt8 := dkwJ5_min_0 ++ []
theorem dksJ5_min_0 : cJ5_min.data.toList.drop 0 = dktJ5_min_0 := by decide +kernel
theorem dJ5_min_0 : decode cJ5_min 0 = .ok (.iload_n 0, 1) := dk_26 (dk_at dksJ5_min_0 0 rfl rfl)
theorem dJ5_min_1 : decode cJ5_min 1 = .ok (.iload_n 1, 1) := dk_27 (dk_at dksJ5_min_0 1 rfl rfl)
theorem dJ5_min_2 : decode cJ5_min 2 = .ok (.if_icmp .gt 7, 3) := dk_163 0 7 (dk_at dksJ5_min_0 2 rfl rfl)
theorem dJ5_min_5 : decode cJ5_min 5 = .ok (.iload_n 0, 1) := dk_26 (dk_at dksJ5_min_0 5 rfl rfl)
theorem dJ5_min_6 : decode cJ5_min 6 = .ok (.goto 4, 3) := dk_167 0 4 (dk_at dksJ5_min_0 6 rfl rfl)
theorem dJ5_min_9 : decode cJ5_min 9 = .ok (.iload_n 1, 1) := dk_27 (dk_at dksJ5_min_0 9 rfl rfl)
theorem dJ5_min_10 : decode cJ5_min 10 = .ok (.ireturn, 1) := dk_172 (dk_at dksJ5_min_0 10 rfl rfl)
abbrev cJ5_max : ByteArray := prog_29_method_65_code
def yJ5_max : MethodName := ⟨RJ5, "max", "(II)I"⟩
def dkwJ5_max_0 : List UInt8 := [26, 27, 161, 0, 7, 26, 167, 0, 4, 27, 172]
abbrev dktJ5_max_0 : List UInt8 := dkwJ5_max_0 ++ []
theorem dksJ5_max_0 : cJ5_max.data.toList.drop 0 = dktJ5_max_0 := by decide +kernel
theorem dJ5_max_0 : decode cJ5_max 0 = .ok (.iload_n 0, 1) := dk_26 (dk_at dksJ5_max_0 0 rfl rfl)
theorem dJ5_max_1 : decode cJ5_max 1 = .ok (.iload_n 1, 1) := dk_27 (dk_at dksJ5_max_0 1 rfl rfl)
theorem dJ5_max_2 : decode cJ5_max 2 = .ok (.if_icmp .lt 7, 3) := dk_161 0 7 (dk_at dksJ5_max_0 2 rfl rfl)
theorem dJ5_max_5 : decode cJ5_max 5 = .ok (.iload_n 0, 1) := dk_26 (dk_at dksJ5_max_0 5 rfl rfl)
theorem dJ5_max_6 : decode cJ5_max 6 = .ok (.goto 4, 3) := dk_167 0 4 (dk_at dksJ5_max_0 6 rfl rfl)
theorem dJ5_max_9 : decode cJ5_max 9 = .ok (.iload_n 1, 1) := dk_27 (dk_at dksJ5_max_0 9 rfl rfl)
theorem dJ5_max_10 : decode cJ5_max 10 = .ok (.ireturn, 1) := dk_172 (dk_at dksJ5_max_0 10 rfl rfl)
theorem q60 : (Jvm.Cond.initialized "java/lang/Math") ∈ lw_all := lw_g (lw_at lw_m1 22 rfl) rfl
theorem q441 : (Jvm.Cond.static ({ cls := "java/lang/Math", name := "min", desc := "(II)I" } : Jvm.MethodName)) ∈ lw_all := lw_g (lw_at lw_m2 163 rfl) rfl
theorem q442 : (Jvm.Cond.code ({ cls := "java/lang/Math", name := "min", desc := "(II)I" } : Jvm.MethodName) prog_29_method_69_code (2 : Nat) (Option.some Jvm.ClassFile.FieldType.int)) ∈ lw_all := lw_g (lw_at lw_m2 164 rfl) rfl
theorem q463 : (Jvm.Cond.static ({ cls := "java/lang/Math", name := "max", desc := "(II)I" } : Jvm.MethodName)) ∈ lw_all := lw_g (lw_at lw_m2 185 rfl) rfl
theorem q464 : (Jvm.Cond.code ({ cls := "java/lang/Math", name := "max", desc := "(II)I" } : Jvm.MethodName) prog_29_method_65_code (2 : Nat) (Option.some Jvm.ClassFile.FieldType.int)) ∈ lw_all := lw_g (lw_at lw_m2 186 rfl) rfl

/-! java/lang/Integer -/
set_option maxRecDepth 100000
def RJ6 : String := "java/lang/Integer"
abbrev cJ6_numberOfTrailingZeros : ByteArray := prog_28_method_48_code
def yJ6_numberOfTrailingZeros : MethodName := ⟨RJ6, "numberOfTrailingZeros", "(I)I"⟩
def dkwJ6_numberOfTrailingZeros_3 : List UInt8 := [5, 124, 59, 27, 26, 4, 124, 96, 172]
abbrev dktJ6_numberOfTrailingZeros_3 : List UInt8 := dkwJ6_numberOfTrailingZeros_3 ++ []
def dkwJ6_numberOfTrailingZeros_2 : List UInt8 := [124, 59, 26, 16, 16, 164, 0, 10, 132, 1, 4, 26, 7, 124, 59, 26, 7, 164, 0, 10, 132, 1, 2, 26]
abbrev dktJ6_numberOfTrailingZeros_2 : List UInt8 := dkwJ6_numberOfTrailingZeros_2 ++ dktJ6_numberOfTrailingZeros_3
def dkwJ6_numberOfTrailingZeros_1 : List UInt8 := [164, 0, 11, 132, 1, 16, 26, 16, 16, 124, 59, 26, 17, 1, 0, 164, 0, 11, 132, 1, 8, 26, 16, 8]
abbrev dktJ6_numberOfTrailingZeros_1 : List UInt8 := dkwJ6_numberOfTrailingZeros_1 ++ dktJ6_numberOfTrailingZeros_2
def dkwJ6_numberOfTrailingZeros_0 : List UInt8 := [26, 2, 130, 26, 4, 100, 126, 59, 26, 157, 0, 8, 26, 16, 32, 126, 172, 4, 60, 26, 19, 1, 8]
abbrev dktJ6_numberOfTrailingZeros_0 : List UInt8 := dkwJ6_numberOfTrailingZeros_0 ++ dktJ6_numberOfTrailingZeros_1
theorem dksJ6_numberOfTrailingZeros_0 : cJ6_numberOfTrailingZeros.data.toList.drop 0 = dktJ6_numberOfTrailingZeros_0 := by decide +kernel
theorem dksJ6_numberOfTrailingZeros_1 : cJ6_numberOfTrailingZeros.data.toList.drop 23 = dktJ6_numberOfTrailingZeros_1 := dk_seg dksJ6_numberOfTrailingZeros_0 23 rfl rfl
theorem dksJ6_numberOfTrailingZeros_2 : cJ6_numberOfTrailingZeros.data.toList.drop 47 = dktJ6_numberOfTrailingZeros_2 := dk_seg dksJ6_numberOfTrailingZeros_1 24 rfl rfl
theorem dksJ6_numberOfTrailingZeros_3 : cJ6_numberOfTrailingZeros.data.toList.drop 71 = dktJ6_numberOfTrailingZeros_3 := dk_seg dksJ6_numberOfTrailingZeros_2 24 rfl rfl
theorem dJ6_numberOfTrailingZeros_0 : decode cJ6_numberOfTrailingZeros 0 = .ok (.iload_n 0, 1) := dk_26 (dk_at dksJ6_numberOfTrailingZeros_0 0 rfl rfl)
theorem dJ6_numberOfTrailingZeros_1 : decode cJ6_numberOfTrailingZeros 1 = .ok (.iconst (-1), 1) := dk_2 (dk_at dksJ6_numberOfTrailingZeros_0 1 rfl rfl)
theorem dJ6_numberOfTrailingZeros_2 : decode cJ6_numberOfTrailingZeros 2 = .ok (.ixor, 1) := dk_130 (dk_at dksJ6_numberOfTrailingZeros_0 2 rfl rfl)
theorem dJ6_numberOfTrailingZeros_3 : decode cJ6_numberOfTrailingZeros 3 = .ok (.iload_n 0, 1) := dk_26 (dk_at dksJ6_numberOfTrailingZeros_0 3 rfl rfl)
theorem dJ6_numberOfTrailingZeros_4 : decode cJ6_numberOfTrailingZeros 4 = .ok (.iconst 1, 1) := dk_4 (dk_at dksJ6_numberOfTrailingZeros_0 4 rfl rfl)
theorem dJ6_numberOfTrailingZeros_5 : decode cJ6_numberOfTrailingZeros 5 = .ok (.isub, 1) := dk_100 (dk_at dksJ6_numberOfTrailingZeros_0 5 rfl rfl)
theorem dJ6_numberOfTrailingZeros_6 : decode cJ6_numberOfTrailingZeros 6 = .ok (.iand, 1) := dk_126 (dk_at dksJ6_numberOfTrailingZeros_0 6 rfl rfl)
theorem dJ6_numberOfTrailingZeros_7 : decode cJ6_numberOfTrailingZeros 7 = .ok (.istore_n 0, 1) := dk_59 (dk_at dksJ6_numberOfTrailingZeros_0 7 rfl rfl)
theorem dJ6_numberOfTrailingZeros_8 : decode cJ6_numberOfTrailingZeros 8 = .ok (.iload_n 0, 1) := dk_26 (dk_at dksJ6_numberOfTrailingZeros_0 8 rfl rfl)
theorem dJ6_numberOfTrailingZeros_9 : decode cJ6_numberOfTrailingZeros 9 = .ok (.ifCond .gt 8, 3) := dk_157 0 8 (dk_at dksJ6_numberOfTrailingZeros_0 9 rfl rfl)
theorem dJ6_numberOfTrailingZeros_12 : decode cJ6_numberOfTrailingZeros 12 = .ok (.iload_n 0, 1) := dk_26 (dk_at dksJ6_numberOfTrailingZeros_0 12 rfl rfl)
theorem dJ6_numberOfTrailingZeros_13 : decode cJ6_numberOfTrailingZeros 13 = .ok (.bipush 32, 2) := dk_16 32 (dk_at dksJ6_numberOfTrailingZeros_0 13 rfl rfl)
theorem dJ6_numberOfTrailingZeros_15 : decode cJ6_numberOfTrailingZeros 15 = .ok (.iand, 1) := dk_126 (dk_at dksJ6_numberOfTrailingZeros_0 15 rfl rfl)
theorem dJ6_numberOfTrailingZeros_16 : decode cJ6_numberOfTrailingZeros 16 = .ok (.ireturn, 1) := dk_172 (dk_at dksJ6_numberOfTrailingZeros_0 16 rfl rfl)
theorem dJ6_numberOfTrailingZeros_17 : decode cJ6_numberOfTrailingZeros 17 = .ok (.iconst 1, 1) := dk_4 (dk_at dksJ6_numberOfTrailingZeros_0 17 rfl rfl)
theorem dJ6_numberOfTrailingZeros_18 : decode cJ6_numberOfTrailingZeros 18 = .ok (.istore_n 1, 1) := dk_60 (dk_at dksJ6_numberOfTrailingZeros_0 18 rfl rfl)
theorem dJ6_numberOfTrailingZeros_19 : decode cJ6_numberOfTrailingZeros 19 = .ok (.iload_n 0, 1) := dk_26 (dk_at dksJ6_numberOfTrailingZeros_0 19 rfl rfl)
theorem dJ6_numberOfTrailingZeros_20 : decode cJ6_numberOfTrailingZeros 20 = .ok (.ldc_w 264, 3) := dk_19 1 8 (dk_at dksJ6_numberOfTrailingZeros_0 20 rfl rfl)
theorem dJ6_numberOfTrailingZeros_23 : decode cJ6_numberOfTrailingZeros 23 = .ok (.if_icmp .le 11, 3) := dk_164 0 11 (dk_at dksJ6_numberOfTrailingZeros_1 0 rfl rfl)
theorem dJ6_numberOfTrailingZeros_26 : decode cJ6_numberOfTrailingZeros 26 = .ok (.iinc 1 16, 3) := dk_132 1 16 (dk_at dksJ6_numberOfTrailingZeros_1 3 rfl rfl)
theorem dJ6_numberOfTrailingZeros_29 : decode cJ6_numberOfTrailingZeros 29 = .ok (.iload_n 0, 1) := dk_26 (dk_at dksJ6_numberOfTrailingZeros_1 6 rfl rfl)
theorem dJ6_numberOfTrailingZeros_30 : decode cJ6_numberOfTrailingZeros 30 = .ok (.bipush 16, 2) := dk_16 16 (dk_at dksJ6_numberOfTrailingZeros_1 7 rfl rfl)
theorem dJ6_numberOfTrailingZeros_32 : decode cJ6_numberOfTrailingZeros 32 = .ok (.iushr, 1) := dk_124 (dk_at dksJ6_numberOfTrailingZeros_1 9 rfl rfl)
theorem dJ6_numberOfTrailingZeros_33 : decode cJ6_numberOfTrailingZeros 33 = .ok (.istore_n 0, 1) := dk_59 (dk_at dksJ6_numberOfTrailingZeros_1 10 rfl rfl)
theorem dJ6_numberOfTrailingZeros_34 : decode cJ6_numberOfTrailingZeros 34 = .ok (.iload_n 0, 1) := dk_26 (dk_at dksJ6_numberOfTrailingZeros_1 11 rfl rfl)
theorem dJ6_numberOfTrailingZeros_35 : decode cJ6_numberOfTrailingZeros 35 = .ok (.sipush 256, 3) := dk_17 1 0 (dk_at dksJ6_numberOfTrailingZeros_1 12 rfl rfl)
theorem dJ6_numberOfTrailingZeros_38 : decode cJ6_numberOfTrailingZeros 38 = .ok (.if_icmp .le 11, 3) := dk_164 0 11 (dk_at dksJ6_numberOfTrailingZeros_1 15 rfl rfl)
theorem dJ6_numberOfTrailingZeros_41 : decode cJ6_numberOfTrailingZeros 41 = .ok (.iinc 1 8, 3) := dk_132 1 8 (dk_at dksJ6_numberOfTrailingZeros_1 18 rfl rfl)
theorem dJ6_numberOfTrailingZeros_44 : decode cJ6_numberOfTrailingZeros 44 = .ok (.iload_n 0, 1) := dk_26 (dk_at dksJ6_numberOfTrailingZeros_1 21 rfl rfl)
theorem dJ6_numberOfTrailingZeros_45 : decode cJ6_numberOfTrailingZeros 45 = .ok (.bipush 8, 2) := dk_16 8 (dk_at dksJ6_numberOfTrailingZeros_1 22 rfl rfl)
theorem dJ6_numberOfTrailingZeros_47 : decode cJ6_numberOfTrailingZeros 47 = .ok (.iushr, 1) := dk_124 (dk_at dksJ6_numberOfTrailingZeros_2 0 rfl rfl)
theorem dJ6_numberOfTrailingZeros_48 : decode cJ6_numberOfTrailingZeros 48 = .ok (.istore_n 0, 1) := dk_59 (dk_at dksJ6_numberOfTrailingZeros_2 1 rfl rfl)
theorem dJ6_numberOfTrailingZeros_49 : decode cJ6_numberOfTrailingZeros 49 = .ok (.iload_n 0, 1) := dk_26 (dk_at dksJ6_numberOfTrailingZeros_2 2 rfl rfl)
theorem dJ6_numberOfTrailingZeros_50 : decode cJ6_numberOfTrailingZeros 50 = .ok (.bipush 16, 2) := dk_16 16 (dk_at dksJ6_numberOfTrailingZeros_2 3 rfl rfl)
theorem dJ6_numberOfTrailingZeros_52 : decode cJ6_numberOfTrailingZeros 52 = .ok (.if_icmp .le 10, 3) := dk_164 0 10 (dk_at dksJ6_numberOfTrailingZeros_2 5 rfl rfl)
theorem dJ6_numberOfTrailingZeros_55 : decode cJ6_numberOfTrailingZeros 55 = .ok (.iinc 1 4, 3) := dk_132 1 4 (dk_at dksJ6_numberOfTrailingZeros_2 8 rfl rfl)
theorem dJ6_numberOfTrailingZeros_58 : decode cJ6_numberOfTrailingZeros 58 = .ok (.iload_n 0, 1) := dk_26 (dk_at dksJ6_numberOfTrailingZeros_2 11 rfl rfl)
theorem dJ6_numberOfTrailingZeros_59 : decode cJ6_numberOfTrailingZeros 59 = .ok (.iconst 4, 1) := dk_7 (dk_at dksJ6_numberOfTrailingZeros_2 12 rfl rfl)
theorem dJ6_numberOfTrailingZeros_60 : decode cJ6_numberOfTrailingZeros 60 = .ok (.iushr, 1) := dk_124 (dk_at dksJ6_numberOfTrailingZeros_2 13 rfl rfl)
theorem dJ6_numberOfTrailingZeros_61 : decode cJ6_numberOfTrailingZeros 61 = .ok (.istore_n 0, 1) := dk_59 (dk_at dksJ6_numberOfTrailingZeros_2 14 rfl rfl)
theorem dJ6_numberOfTrailingZeros_62 : decode cJ6_numberOfTrailingZeros 62 = .ok (.iload_n 0, 1) := dk_26 (dk_at dksJ6_numberOfTrailingZeros_2 15 rfl rfl)
theorem dJ6_numberOfTrailingZeros_63 : decode cJ6_numberOfTrailingZeros 63 = .ok (.iconst 4, 1) := dk_7 (dk_at dksJ6_numberOfTrailingZeros_2 16 rfl rfl)
theorem dJ6_numberOfTrailingZeros_64 : decode cJ6_numberOfTrailingZeros 64 = .ok (.if_icmp .le 10, 3) := dk_164 0 10 (dk_at dksJ6_numberOfTrailingZeros_2 17 rfl rfl)
theorem dJ6_numberOfTrailingZeros_67 : decode cJ6_numberOfTrailingZeros 67 = .ok (.iinc 1 2, 3) := dk_132 1 2 (dk_at dksJ6_numberOfTrailingZeros_2 20 rfl rfl)
theorem dJ6_numberOfTrailingZeros_70 : decode cJ6_numberOfTrailingZeros 70 = .ok (.iload_n 0, 1) := dk_26 (dk_at dksJ6_numberOfTrailingZeros_2 23 rfl rfl)
theorem dJ6_numberOfTrailingZeros_71 : decode cJ6_numberOfTrailingZeros 71 = .ok (.iconst 2, 1) := dk_5 (dk_at dksJ6_numberOfTrailingZeros_3 0 rfl rfl)
theorem dJ6_numberOfTrailingZeros_72 : decode cJ6_numberOfTrailingZeros 72 = .ok (.iushr, 1) := dk_124 (dk_at dksJ6_numberOfTrailingZeros_3 1 rfl rfl)
theorem dJ6_numberOfTrailingZeros_73 : decode cJ6_numberOfTrailingZeros 73 = .ok (.istore_n 0, 1) := dk_59 (dk_at dksJ6_numberOfTrailingZeros_3 2 rfl rfl)
theorem dJ6_numberOfTrailingZeros_74 : decode cJ6_numberOfTrailingZeros 74 = .ok (.iload_n 1, 1) := dk_27 (dk_at dksJ6_numberOfTrailingZeros_3 3 rfl rfl)
theorem dJ6_numberOfTrailingZeros_75 : decode cJ6_numberOfTrailingZeros 75 = .ok (.iload_n 0, 1) := dk_26 (dk_at dksJ6_numberOfTrailingZeros_3 4 rfl rfl)
theorem dJ6_numberOfTrailingZeros_76 : decode cJ6_numberOfTrailingZeros 76 = .ok (.iconst 1, 1) := dk_4 (dk_at dksJ6_numberOfTrailingZeros_3 5 rfl rfl)
theorem dJ6_numberOfTrailingZeros_77 : decode cJ6_numberOfTrailingZeros 77 = .ok (.iushr, 1) := dk_124 (dk_at dksJ6_numberOfTrailingZeros_3 6 rfl rfl)
theorem dJ6_numberOfTrailingZeros_78 : decode cJ6_numberOfTrailingZeros 78 = .ok (.iadd, 1) := dk_96 (dk_at dksJ6_numberOfTrailingZeros_3 7 rfl rfl)
theorem dJ6_numberOfTrailingZeros_79 : decode cJ6_numberOfTrailingZeros 79 = .ok (.ireturn, 1) := dk_172 (dk_at dksJ6_numberOfTrailingZeros_3 8 rfl rfl)
abbrev cJ6_bitCount : ByteArray := prog_28_method_49_code
def yJ6_bitCount : MethodName := ⟨RJ6, "bitCount", "(I)I"⟩
def dkwJ6_bitCount_2 : List UInt8 := [26, 16, 63, 126, 172]
abbrev dktJ6_bitCount_2 : List UInt8 := dkwJ6_bitCount_2 ++ []
def dkwJ6_bitCount_1 : List UInt8 := [26, 26, 7, 124, 96, 19, 1, 11, 126, 59, 26, 26, 16, 8, 124, 96, 59, 26, 26, 16, 16, 124, 96, 59]
abbrev dktJ6_bitCount_1 : List UInt8 := dkwJ6_bitCount_1 ++ dktJ6_bitCount_2
def dkwJ6_bitCount_0 : List UInt8 := [26, 26, 4, 124, 19, 1, 9, 126, 100, 59, 26, 19, 1, 10, 126, 26, 5, 124, 19, 1, 10, 126, 96, 59]
abbrev dktJ6_bitCount_0 : List UInt8 := dkwJ6_bitCount_0 ++ dktJ6_bitCount_1
theorem dksJ6_bitCount_0 : cJ6_bitCount.data.toList.drop 0 = dktJ6_bitCount_0 := by decide +kernel
theorem dksJ6_bitCount_1 : cJ6_bitCount.data.toList.drop 24 = dktJ6_bitCount_1 := dk_seg dksJ6_bitCount_0 24 rfl rfl
theorem dksJ6_bitCount_2 : cJ6_bitCount.data.toList.drop 48 = dktJ6_bitCount_2 := dk_seg dksJ6_bitCount_1 24 rfl rfl
theorem dJ6_bitCount_0 : decode cJ6_bitCount 0 = .ok (.iload_n 0, 1) := dk_26 (dk_at dksJ6_bitCount_0 0 rfl rfl)
theorem dJ6_bitCount_1 : decode cJ6_bitCount 1 = .ok (.iload_n 0, 1) := dk_26 (dk_at dksJ6_bitCount_0 1 rfl rfl)
theorem dJ6_bitCount_2 : decode cJ6_bitCount 2 = .ok (.iconst 1, 1) := dk_4 (dk_at dksJ6_bitCount_0 2 rfl rfl)
theorem dJ6_bitCount_3 : decode cJ6_bitCount 3 = .ok (.iushr, 1) := dk_124 (dk_at dksJ6_bitCount_0 3 rfl rfl)
theorem dJ6_bitCount_4 : decode cJ6_bitCount 4 = .ok (.ldc_w 265, 3) := dk_19 1 9 (dk_at dksJ6_bitCount_0 4 rfl rfl)
theorem dJ6_bitCount_7 : decode cJ6_bitCount 7 = .ok (.iand, 1) := dk_126 (dk_at dksJ6_bitCount_0 7 rfl rfl)
theorem dJ6_bitCount_8 : decode cJ6_bitCount 8 = .ok (.isub, 1) := dk_100 (dk_at dksJ6_bitCount_0 8 rfl rfl)
theorem dJ6_bitCount_9 : decode cJ6_bitCount 9 = .ok (.istore_n 0, 1) := dk_59 (dk_at dksJ6_bitCount_0 9 rfl rfl)
theorem dJ6_bitCount_10 : decode cJ6_bitCount 10 = .ok (.iload_n 0, 1) := dk_26 (dk_at dksJ6_bitCount_0 10 rfl rfl)
theorem dJ6_bitCount_11 : decode cJ6_bitCount 11 = .ok (.ldc_w 266, 3) := dk_19 1 10 (dk_at dksJ6_bitCount_0 11 rfl rfl)
theorem dJ6_bitCount_14 : decode cJ6_bitCount 14 = .ok (.iand, 1) := dk_126 (dk_at dksJ6_bitCount_0 14 rfl rfl)
theorem dJ6_bitCount_15 : decode cJ6_bitCount 15 = .ok (.iload_n 0, 1) := dk_26 (dk_at dksJ6_bitCount_0 15 rfl rfl)
theorem dJ6_bitCount_16 : decode cJ6_bitCount 16 = .ok (.iconst 2, 1) := dk_5 (dk_at dksJ6_bitCount_0 16 rfl rfl)
theorem dJ6_bitCount_17 : decode cJ6_bitCount 17 = .ok (.iushr, 1) := dk_124 (dk_at dksJ6_bitCount_0 17 rfl rfl)
theorem dJ6_bitCount_18 : decode cJ6_bitCount 18 = .ok (.ldc_w 266, 3) := dk_19 1 10 (dk_at dksJ6_bitCount_0 18 rfl rfl)
theorem dJ6_bitCount_21 : decode cJ6_bitCount 21 = .ok (.iand, 1) := dk_126 (dk_at dksJ6_bitCount_0 21 rfl rfl)
theorem dJ6_bitCount_22 : decode cJ6_bitCount 22 = .ok (.iadd, 1) := dk_96 (dk_at dksJ6_bitCount_0 22 rfl rfl)
theorem dJ6_bitCount_23 : decode cJ6_bitCount 23 = .ok (.istore_n 0, 1) := dk_59 (dk_at dksJ6_bitCount_0 23 rfl rfl)
theorem dJ6_bitCount_24 : decode cJ6_bitCount 24 = .ok (.iload_n 0, 1) := dk_26 (dk_at dksJ6_bitCount_1 0 rfl rfl)
theorem dJ6_bitCount_25 : decode cJ6_bitCount 25 = .ok (.iload_n 0, 1) := dk_26 (dk_at dksJ6_bitCount_1 1 rfl rfl)
theorem dJ6_bitCount_26 : decode cJ6_bitCount 26 = .ok (.iconst 4, 1) := dk_7 (dk_at dksJ6_bitCount_1 2 rfl rfl)
theorem dJ6_bitCount_27 : decode cJ6_bitCount 27 = .ok (.iushr, 1) := dk_124 (dk_at dksJ6_bitCount_1 3 rfl rfl)
theorem dJ6_bitCount_28 : decode cJ6_bitCount 28 = .ok (.iadd, 1) := dk_96 (dk_at dksJ6_bitCount_1 4 rfl rfl)
theorem dJ6_bitCount_29 : decode cJ6_bitCount 29 = .ok (.ldc_w 267, 3) := dk_19 1 11 (dk_at dksJ6_bitCount_1 5 rfl rfl)
theorem dJ6_bitCount_32 : decode cJ6_bitCount 32 = .ok (.iand, 1) := dk_126 (dk_at dksJ6_bitCount_1 8 rfl rfl)
theorem dJ6_bitCount_33 : decode cJ6_bitCount 33 = .ok (.istore_n 0, 1) := dk_59 (dk_at dksJ6_bitCount_1 9 rfl rfl)
theorem dJ6_bitCount_34 : decode cJ6_bitCount 34 = .ok (.iload_n 0, 1) := dk_26 (dk_at dksJ6_bitCount_1 10 rfl rfl)
theorem dJ6_bitCount_35 : decode cJ6_bitCount 35 = .ok (.iload_n 0, 1) := dk_26 (dk_at dksJ6_bitCount_1 11 rfl rfl)
theorem dJ6_bitCount_36 : decode cJ6_bitCount 36 = .ok (.bipush 8, 2) := dk_16 8 (dk_at dksJ6_bitCount_1 12 rfl rfl)
theorem dJ6_bitCount_38 : decode cJ6_bitCount 38 = .ok (.iushr, 1) := dk_124 (dk_at dksJ6_bitCount_1 14 rfl rfl)
theorem dJ6_bitCount_39 : decode cJ6_bitCount 39 = .ok (.iadd, 1) := dk_96 (dk_at dksJ6_bitCount_1 15 rfl rfl)
theorem dJ6_bitCount_40 : decode cJ6_bitCount 40 = .ok (.istore_n 0, 1) := dk_59 (dk_at dksJ6_bitCount_1 16 rfl rfl)
theorem dJ6_bitCount_41 : decode cJ6_bitCount 41 = .ok (.iload_n 0, 1) := dk_26 (dk_at dksJ6_bitCount_1 17 rfl rfl)
theorem dJ6_bitCount_42 : decode cJ6_bitCount 42 = .ok (.iload_n 0, 1) := dk_26 (dk_at dksJ6_bitCount_1 18 rfl rfl)
theorem dJ6_bitCount_43 : decode cJ6_bitCount 43 = .ok (.bipush 16, 2) := dk_16 16 (dk_at dksJ6_bitCount_1 19 rfl rfl)
theorem dJ6_bitCount_45 : decode cJ6_bitCount 45 = .ok (.iushr, 1) := dk_124 (dk_at dksJ6_bitCount_1 21 rfl rfl)
theorem dJ6_bitCount_46 : decode cJ6_bitCount 46 = .ok (.iadd, 1) := dk_96 (dk_at dksJ6_bitCount_1 22 rfl rfl)
theorem dJ6_bitCount_47 : decode cJ6_bitCount 47 = .ok (.istore_n 0, 1) := dk_59 (dk_at dksJ6_bitCount_1 23 rfl rfl)
theorem dJ6_bitCount_48 : decode cJ6_bitCount 48 = .ok (.iload_n 0, 1) := dk_26 (dk_at dksJ6_bitCount_2 0 rfl rfl)
theorem dJ6_bitCount_49 : decode cJ6_bitCount 49 = .ok (.bipush 63, 2) := dk_16 63 (dk_at dksJ6_bitCount_2 1 rfl rfl)
theorem dJ6_bitCount_51 : decode cJ6_bitCount 51 = .ok (.iand, 1) := dk_126 (dk_at dksJ6_bitCount_2 3 rfl rfl)
theorem dJ6_bitCount_52 : decode cJ6_bitCount 52 = .ok (.ireturn, 1) := dk_172 (dk_at dksJ6_bitCount_2 4 rfl rfl)
theorem q61 : (Jvm.Cond.initialized "java/lang/Integer") ∈ lw_all := lw_g (lw_at lw_m1 23 rfl) rfl
theorem q593 : (Jvm.Cond.static ({ cls := "java/lang/Integer", name := "numberOfTrailingZeros", desc := "(I)I" } : Jvm.MethodName)) ∈ lw_all := lw_g (lw_at lw_m3 75 rfl) rfl
theorem q594 : (Jvm.Cond.code ({ cls := "java/lang/Integer", name := "numberOfTrailingZeros", desc := "(I)I" } : Jvm.MethodName) prog_28_method_48_code (2 : Nat) (Option.some Jvm.ClassFile.FieldType.int)) ∈ lw_all := lw_g (lw_at lw_m3 76 rfl) rfl
theorem q595 : (Jvm.Cond.constant "java/lang/Integer" (264 : Nat) (65536 : Int32)) ∈ lw_all := lw_g (lw_at lw_m3 77 rfl) rfl
theorem q694 : (Jvm.Cond.static ({ cls := "java/lang/Integer", name := "bitCount", desc := "(I)I" } : Jvm.MethodName)) ∈ lw_all := lw_g (lw_at lw_m3 176 rfl) rfl
theorem q695 : (Jvm.Cond.code ({ cls := "java/lang/Integer", name := "bitCount", desc := "(I)I" } : Jvm.MethodName) prog_28_method_49_code (1 : Nat) (Option.some Jvm.ClassFile.FieldType.int)) ∈ lw_all := lw_g (lw_at lw_m3 177 rfl) rfl
theorem q696 : (Jvm.Cond.constant "java/lang/Integer" (265 : Nat) (1431655765 : Int32)) ∈ lw_all := lw_g (lw_at lw_m3 178 rfl) rfl
theorem q697 : (Jvm.Cond.constant "java/lang/Integer" (266 : Nat) (858993459 : Int32)) ∈ lw_all := lw_g (lw_at lw_m3 179 rfl) rfl
theorem q698 : (Jvm.Cond.constant "java/lang/Integer" (267 : Nat) (252645135 : Int32)) ∈ lw_all := lw_g (lw_at lw_m3 180 rfl) rfl

/-! java/util/Arrays -/
set_option maxRecDepth 100000
def RJ7 : String := "java/util/Arrays"
abbrev cJ7_fill : ByteArray := prog_36_method_103_code
def yJ7_fill : MethodName := ⟨RJ7, "fill", "([II)V"⟩
def dkwJ7_fill_0 : List UInt8 := [3, 61, 42, 190, 62, 28, 29, 162, 0, 13, 42, 28, 27, 79, 132, 2, 1, 167, 255, 244, 177]
abbrev dktJ7_fill_0 : List UInt8 := dkwJ7_fill_0 ++ []
theorem dksJ7_fill_0 : cJ7_fill.data.toList.drop 0 = dktJ7_fill_0 := by decide +kernel
theorem dJ7_fill_0 : decode cJ7_fill 0 = .ok (.iconst 0, 1) := dk_3 (dk_at dksJ7_fill_0 0 rfl rfl)
theorem dJ7_fill_1 : decode cJ7_fill 1 = .ok (.istore_n 2, 1) := dk_61 (dk_at dksJ7_fill_0 1 rfl rfl)
theorem dJ7_fill_2 : decode cJ7_fill 2 = .ok (.aload_n 0, 1) := dk_42 (dk_at dksJ7_fill_0 2 rfl rfl)
theorem dJ7_fill_3 : decode cJ7_fill 3 = .ok (.arraylength, 1) := dk_190 (dk_at dksJ7_fill_0 3 rfl rfl)
theorem dJ7_fill_4 : decode cJ7_fill 4 = .ok (.istore_n 3, 1) := dk_62 (dk_at dksJ7_fill_0 4 rfl rfl)
theorem dJ7_fill_5 : decode cJ7_fill 5 = .ok (.iload_n 2, 1) := dk_28 (dk_at dksJ7_fill_0 5 rfl rfl)
theorem dJ7_fill_6 : decode cJ7_fill 6 = .ok (.iload_n 3, 1) := dk_29 (dk_at dksJ7_fill_0 6 rfl rfl)
theorem dJ7_fill_7 : decode cJ7_fill 7 = .ok (.if_icmp .ge 13, 3) := dk_162 0 13 (dk_at dksJ7_fill_0 7 rfl rfl)
theorem dJ7_fill_10 : decode cJ7_fill 10 = .ok (.aload_n 0, 1) := dk_42 (dk_at dksJ7_fill_0 10 rfl rfl)
theorem dJ7_fill_11 : decode cJ7_fill 11 = .ok (.iload_n 2, 1) := dk_28 (dk_at dksJ7_fill_0 11 rfl rfl)
theorem dJ7_fill_12 : decode cJ7_fill 12 = .ok (.iload_n 1, 1) := dk_27 (dk_at dksJ7_fill_0 12 rfl rfl)
theorem dJ7_fill_13 : decode cJ7_fill 13 = .ok (.iastore, 1) := dk_79 (dk_at dksJ7_fill_0 13 rfl rfl)
theorem dJ7_fill_14 : decode cJ7_fill 14 = .ok (.iinc 2 1, 3) := dk_132 2 1 (dk_at dksJ7_fill_0 14 rfl rfl)
theorem dJ7_fill_17 : decode cJ7_fill 17 = .ok (.goto (-12), 3) := dk_167 255 244 (dk_at dksJ7_fill_0 17 rfl rfl)
theorem dJ7_fill_20 : decode cJ7_fill 20 = .ok (.return_, 1) := dk_177 (dk_at dksJ7_fill_0 20 rfl rfl)
theorem q62 : (Jvm.Cond.initialized "java/util/Arrays") ∈ lw_all := lw_g (lw_at lw_m1 24 rfl) rfl
theorem q608 : (Jvm.Cond.static ({ cls := "java/util/Arrays", name := "fill", desc := "([II)V" } : Jvm.MethodName)) ∈ lw_all := lw_g (lw_at lw_m3 90 rfl) rfl
theorem q609 : (Jvm.Cond.code ({ cls := "java/util/Arrays", name := "fill", desc := "([II)V" } : Jvm.MethodName) prog_36_method_103_code (4 : Nat) (Option.none : Option Jvm.ClassFile.FieldType)) ∈ lw_all := lw_g (lw_at lw_m3 91 rfl) rfl

/-! java/lang/NegativeArraySizeException -/
set_option maxRecDepth 100000
def RJ8 : String := "java/lang/NegativeArraySizeException"
def TJ8 : u_T := fun k => match k with
  | 0 => ("java/lang/Throwable", "backtrace", "Ljava/lang/Object;", false)
  | 1 => ("java/lang/Throwable", "detailMessage", "Ljava/lang/String;", false)
  | 2 => ("java/lang/Throwable", "cause", "Ljava/lang/Throwable;", false)
  | 3 => ("java/lang/Throwable", "stackTrace", "[Ljava/lang/StackTraceElement;", false)
  | 4 => ("java/lang/Throwable", "depth", "I", false)
  | _ => ("java/lang/Throwable", "suppressedExceptions", "Ljava/util/List;", false)
def tyJ8 : Nat → FieldType := fun k => match k with
  | 0 => .object "java/lang/Object"
  | 1 => .object "java/lang/String"
  | 2 => .object "java/lang/Throwable"
  | 3 => .array (.object "java/lang/StackTraceElement")
  | 4 => .int
  | _ => .object "java/util/List"
abbrev wsJ80 : List Cond := u_ws RJ8 TJ8 6
theorem nmJ8 : ∀ a, a < 6 → ∀ b, b < 6 → a ≠ b → (TJ8 a).2.1 ≠ (TJ8 b).2.1 := by decide +kernel
theorem tyJ8_ok : ∀ k, k < 6 → parseFieldDescriptor (TJ8 k).2.2.1 = some (tyJ8 k) := by decide +kernel
abbrev cJ8_init : ByteArray := prog_30_method_2_code
def yJ8_init : MethodName := ⟨RJ8, "<init>", "(Ljava/lang/String;)V"⟩
def dkwJ8_init_0 : List UInt8 := [42, 43, 183, 0, 7, 177]
abbrev dktJ8_init_0 : List UInt8 := dkwJ8_init_0 ++ []
theorem dksJ8_init_0 : cJ8_init.data.toList.drop 0 = dktJ8_init_0 := by decide +kernel
theorem dJ8_init_0 : decode cJ8_init 0 = .ok (.aload_n 0, 1) := dk_42 (dk_at dksJ8_init_0 0 rfl rfl)
theorem dJ8_init_1 : decode cJ8_init 1 = .ok (.aload_n 1, 1) := dk_43 (dk_at dksJ8_init_0 1 rfl rfl)
theorem dJ8_init_2 : decode cJ8_init 2 = .ok (.invokespecial 7, 3) := dk_183 0 7 (dk_at dksJ8_init_0 2 rfl rfl)
theorem dJ8_init_5 : decode cJ8_init 5 = .ok (.return_, 1) := dk_177 (dk_at dksJ8_init_0 5 rfl rfl)
theorem q63 : (Jvm.Cond.initialized "java/lang/NegativeArraySizeException") ∈ lw_all := lw_g (lw_at lw_m1 25 rfl) rfl
theorem q103 : (Jvm.Cond.selects "java/lang/NegativeArraySizeException" ({ cls := "java/lang/Throwable", name := "fillInStackTrace", desc := "()Ljava/lang/Throwable;" } : Jvm.MethodName) ({ cls := "java/lang/Throwable", name := "fillInStackTrace", desc := "()Ljava/lang/Throwable;" } : Jvm.MethodName)) ∈ lw_all := lw_g (lw_at lw_m1 65 rfl) rfl
theorem q875 : (Jvm.Cond.instantiable "java/lang/NegativeArraySizeException" (6 : Nat)) ∈ lw_all := lw_g (lw_at lw_m4 117 rfl) rfl
theorem q876 : (Jvm.Cond.instanceMethod ({ cls := "java/lang/NegativeArraySizeException", name := "<init>", desc := "(Ljava/lang/String;)V" } : Jvm.MethodName)) ∈ lw_all := lw_g (lw_at lw_m4 118 rfl) rfl
theorem q877 : (Jvm.Cond.code ({ cls := "java/lang/NegativeArraySizeException", name := "<init>", desc := "(Ljava/lang/String;)V" } : Jvm.MethodName) prog_30_method_2_code (2 : Nat) (Option.none : Option Jvm.ClassFile.FieldType)) ∈ lw_all := lw_g (lw_at lw_m4 119 rfl) rfl
theorem q878 : (Jvm.Cond.methodLink "java/lang/NegativeArraySizeException" (7 : Nat) ({ cls := "java/lang/RuntimeException", name := "<init>", desc := "(Ljava/lang/String;)V" } : Jvm.MethodName)) ∈ lw_all := lw_g (lw_at lw_m4 120 rfl) rfl
theorem q879 : (Jvm.Cond.lays "java/lang/NegativeArraySizeException" "java/lang/Throwable" "backtrace" "Ljava/lang/Object;") ∈ lw_all := lw_g (lw_at lw_m4 121 rfl) rfl
theorem q880 : (Jvm.Cond.lays "java/lang/NegativeArraySizeException" "java/lang/Throwable" "detailMessage" "Ljava/lang/String;") ∈ lw_all := lw_g (lw_at lw_m4 122 rfl) rfl
theorem q881 : (Jvm.Cond.lays "java/lang/NegativeArraySizeException" "java/lang/Throwable" "cause" "Ljava/lang/Throwable;") ∈ lw_all := lw_g (lw_at lw_m4 123 rfl) rfl
theorem q882 : (Jvm.Cond.lays "java/lang/NegativeArraySizeException" "java/lang/Throwable" "stackTrace" "[Ljava/lang/StackTraceElement;") ∈ lw_all := lw_g (lw_at lw_m4 124 rfl) rfl
theorem q883 : (Jvm.Cond.lays "java/lang/NegativeArraySizeException" "java/lang/Throwable" "depth" "I") ∈ lw_all := lw_g (lw_at lw_m4 125 rfl) rfl
theorem q884 : (Jvm.Cond.lays "java/lang/NegativeArraySizeException" "java/lang/Throwable" "suppressedExceptions" "Ljava/util/List;") ∈ lw_all := lw_g (lw_at lw_m4 126 rfl) rfl
theorem q885 : (Jvm.Cond.superclass "java/lang/NegativeArraySizeException" "java/lang/RuntimeException") ∈ lw_all := lw_g (lw_at lw_m4 127 rfl) rfl
theorem q886 : (Jvm.Cond.castable "java/lang/NegativeArraySizeException" "java/lang/NegativeArraySizeException") ∈ lw_tbl := lw_at lw_m4 128 rfl
theorem q887 : (Jvm.Cond.selects "java/lang/NegativeArraySizeException" ({ cls := "java/lang/Throwable", name := "fillInStackTrace", desc := "(I)Ljava/lang/Throwable;" } : Jvm.MethodName) ({ cls := "java/lang/Throwable", name := "fillInStackTrace", desc := "(I)Ljava/lang/Throwable;" } : Jvm.MethodName)) ∈ lw_all := lw_g (lw_at lw_m4 129 rfl) rfl
theorem in_J8 : ∀ w ∈ wsJ80, w ∈ lw_all := lw_in wsJ80 [879, 880, 881, 882, 883, 884] (by decide +kernel) (by decide +kernel)

/-! java/lang/IndexOutOfBoundsException -/
set_option maxRecDepth 100000
def RJ9 : String := "java/lang/IndexOutOfBoundsException"
abbrev cJ9_init : ByteArray := prog_27_method_2_code
def yJ9_init : MethodName := ⟨RJ9, "<init>", "(Ljava/lang/String;)V"⟩
def dkwJ9_init_0 : List UInt8 := [42, 43, 183, 0, 7, 177]
abbrev dktJ9_init_0 : List UInt8 := dkwJ9_init_0 ++ []
theorem dksJ9_init_0 : cJ9_init.data.toList.drop 0 = dktJ9_init_0 := by decide +kernel
theorem dJ9_init_0 : decode cJ9_init 0 = .ok (.aload_n 0, 1) := dk_42 (dk_at dksJ9_init_0 0 rfl rfl)
theorem dJ9_init_1 : decode cJ9_init 1 = .ok (.aload_n 1, 1) := dk_43 (dk_at dksJ9_init_0 1 rfl rfl)
theorem dJ9_init_2 : decode cJ9_init 2 = .ok (.invokespecial 7, 3) := dk_183 0 7 (dk_at dksJ9_init_0 2 rfl rfl)
theorem dJ9_init_5 : decode cJ9_init 5 = .ok (.return_, 1) := dk_177 (dk_at dksJ9_init_0 5 rfl rfl)
theorem q64 : (Jvm.Cond.initialized "java/lang/IndexOutOfBoundsException") ∈ lw_all := lw_g (lw_at lw_m1 26 rfl) rfl
theorem q898 : (Jvm.Cond.instanceMethod ({ cls := "java/lang/IndexOutOfBoundsException", name := "<init>", desc := "(Ljava/lang/String;)V" } : Jvm.MethodName)) ∈ lw_all := lw_g (lw_at lw_m4 140 rfl) rfl
theorem q899 : (Jvm.Cond.code ({ cls := "java/lang/IndexOutOfBoundsException", name := "<init>", desc := "(Ljava/lang/String;)V" } : Jvm.MethodName) prog_27_method_2_code (2 : Nat) (Option.none : Option Jvm.ClassFile.FieldType)) ∈ lw_all := lw_g (lw_at lw_m4 141 rfl) rfl
theorem q900 : (Jvm.Cond.methodLink "java/lang/IndexOutOfBoundsException" (7 : Nat) ({ cls := "java/lang/RuntimeException", name := "<init>", desc := "(Ljava/lang/String;)V" } : Jvm.MethodName)) ∈ lw_all := lw_g (lw_at lw_m4 142 rfl) rfl
theorem q909 : (Jvm.Cond.declares ({ cls := "java/lang/IndexOutOfBoundsException", name := "<init>", desc := "()V" } : Jvm.MethodName)) ∈ lw_tbl := lw_at lw_m4 151 rfl
theorem q910 : (Jvm.Cond.declares ({ cls := "java/lang/IndexOutOfBoundsException", name := "<init>", desc := "(Ljava/lang/String;)V" } : Jvm.MethodName)) ∈ lw_tbl := lw_at lw_m4 152 rfl

/-! CakesToTheWatchedLaw -/
set_option maxRecDepth 100000
def RX0 : String := "CakesToTheWatchedLaw"
abbrev cX0_element : ByteArray := method_3_code
def yX0_element : MethodName := ⟨RX0, "element", "(LCakesToTheWatched;II[J)I"⟩
def dkwX0_element_0 : List UInt8 := [45, 3, 42, 27, 28, 182, 0, 7, 80, 167, 0, 11, 58, 4, 4, 172, 58, 4, 5, 172, 3, 172]
abbrev dktX0_element_0 : List UInt8 := dkwX0_element_0 ++ []
theorem dksX0_element_0 : cX0_element.data.toList.drop 0 = dktX0_element_0 := by decide +kernel
theorem dX0_element_0 : decode cX0_element 0 = .ok (.aload_n 3, 1) := dk_45 (dk_at dksX0_element_0 0 rfl rfl)
theorem dX0_element_1 : decode cX0_element 1 = .ok (.iconst 0, 1) := dk_3 (dk_at dksX0_element_0 1 rfl rfl)
theorem dX0_element_2 : decode cX0_element 2 = .ok (.aload_n 0, 1) := dk_42 (dk_at dksX0_element_0 2 rfl rfl)
theorem dX0_element_3 : decode cX0_element 3 = .ok (.iload_n 1, 1) := dk_27 (dk_at dksX0_element_0 3 rfl rfl)
theorem dX0_element_4 : decode cX0_element 4 = .ok (.iload_n 2, 1) := dk_28 (dk_at dksX0_element_0 4 rfl rfl)
theorem dX0_element_5 : decode cX0_element 5 = .ok (.invokevirtual 7, 3) := dk_182 0 7 (dk_at dksX0_element_0 5 rfl rfl)
theorem dX0_element_8 : decode cX0_element 8 = .ok (.lastore, 1) := dk_80 (dk_at dksX0_element_0 8 rfl rfl)
theorem dX0_element_9 : decode cX0_element 9 = .ok (.goto 11, 3) := dk_167 0 11 (dk_at dksX0_element_0 9 rfl rfl)
theorem dX0_element_12 : decode cX0_element 12 = .ok (.astore 4, 2) := dk_58 4 (dk_at dksX0_element_0 12 rfl rfl)
theorem dX0_element_14 : decode cX0_element 14 = .ok (.iconst 1, 1) := dk_4 (dk_at dksX0_element_0 14 rfl rfl)
theorem dX0_element_15 : decode cX0_element 15 = .ok (.ireturn, 1) := dk_172 (dk_at dksX0_element_0 15 rfl rfl)
theorem dX0_element_16 : decode cX0_element 16 = .ok (.astore 4, 2) := dk_58 4 (dk_at dksX0_element_0 16 rfl rfl)
theorem dX0_element_18 : decode cX0_element 18 = .ok (.iconst 2, 1) := dk_5 (dk_at dksX0_element_0 18 rfl rfl)
theorem dX0_element_19 : decode cX0_element 19 = .ok (.ireturn, 1) := dk_172 (dk_at dksX0_element_0 19 rfl rfl)
theorem dX0_element_20 : decode cX0_element 20 = .ok (.iconst 0, 1) := dk_3 (dk_at dksX0_element_0 20 rfl rfl)
theorem dX0_element_21 : decode cX0_element 21 = .ok (.ireturn, 1) := dk_172 (dk_at dksX0_element_0 21 rfl rfl)
theorem q38 : (Jvm.Cond.initialized "CakesToTheWatchedLaw") ∈ lw_all := lw_g (lw_at lw_m1 0 rfl) rfl
theorem q70 : (Jvm.Cond.methodLink "CakesToTheWatchedLaw" (21 : Nat) ({ cls := "CakesToTheWatched", name := "fete", desc := "(I)I" } : Jvm.MethodName)) ∈ lw_all := lw_g (lw_at lw_m1 32 rfl) rfl
theorem q499 : (Jvm.Cond.methodLink "CakesToTheWatchedLaw" (26 : Nat) ({ cls := "CakesToTheWatched", name := "person", desc := "(II)I" } : Jvm.MethodName)) ∈ lw_all := lw_g (lw_at lw_m2 221 rfl) rfl
theorem q529 : (Jvm.Cond.methodLink "CakesToTheWatchedLaw" (31 : Nat) ({ cls := "CakesToTheWatched", name := "comes", desc := "(III)I" } : Jvm.MethodName)) ∈ lw_all := lw_g (lw_at lw_m3 11 rfl) rfl
theorem q533 : (Jvm.Cond.methodLink "CakesToTheWatchedLaw" (36 : Nat) ({ cls := "CakesToTheWatched", name := "feels", desc := "(III)I" } : Jvm.MethodName)) ∈ lw_all := lw_g (lw_at lw_m3 15 rfl) rfl
theorem q537 : (Jvm.Cond.methodLink "CakesToTheWatchedLaw" (40 : Nat) ({ cls := "CakesToTheWatched", name := "slices", desc := "(I)I" } : Jvm.MethodName)) ∈ lw_all := lw_g (lw_at lw_m3 19 rfl) rfl
theorem q541 : (Jvm.Cond.methodLink "CakesToTheWatchedLaw" (44 : Nat) ({ cls := "CakesToTheWatched", name := "eats", desc := "(II)I" } : Jvm.MethodName)) ∈ lw_all := lw_g (lw_at lw_m3 23 rfl) rfl
theorem q546 : (Jvm.Cond.methodLink "CakesToTheWatchedLaw" (48 : Nat) ({ cls := "CakesToTheWatched", name := "joys", desc := "(III)I" } : Jvm.MethodName)) ∈ lw_all := lw_g (lw_at lw_m3 28 rfl) rfl
theorem q553 : (Jvm.Cond.methodLink "CakesToTheWatchedLaw" (52 : Nat) ({ cls := "CakesToTheWatched", name := "who", desc := "(I)I" } : Jvm.MethodName)) ∈ lw_all := lw_g (lw_at lw_m3 35 rfl) rfl
theorem q557 : (Jvm.Cond.methodLink "CakesToTheWatchedLaw" (56 : Nat) ({ cls := "CakesToTheWatched", name := "bestPair", desc := "(I)I" } : Jvm.MethodName)) ∈ lw_all := lw_g (lw_at lw_m3 39 rfl) rfl
theorem q571 : (Jvm.Cond.methodLink "CakesToTheWatchedLaw" (60 : Nat) ({ cls := "CakesToTheWatched", name := "bestLooker", desc := "(I)I" } : Jvm.MethodName)) ∈ lw_all := lw_g (lw_at lw_m3 53 rfl) rfl
theorem q575 : (Jvm.Cond.methodLink "CakesToTheWatchedLaw" (64 : Nat) ({ cls := "CakesToTheWatched", name := "twoTurns", desc := "(I)I" } : Jvm.MethodName)) ∈ lw_all := lw_g (lw_at lw_m3 57 rfl) rfl
theorem q584 : (Jvm.Cond.methodLink "CakesToTheWatchedLaw" (68 : Nat) ({ cls := "CakesToTheWatched", name := "pairs", desc := "(I)I" } : Jvm.MethodName)) ∈ lw_all := lw_g (lw_at lw_m3 66 rfl) rfl
theorem q614 : (Jvm.Cond.methodLink "CakesToTheWatchedLaw" (72 : Nat) ({ cls := "CakesToTheWatched", name := "greedily", desc := "(II)I" } : Jvm.MethodName)) ∈ lw_all := lw_g (lw_at lw_m3 96 rfl) rfl
theorem q618 : (Jvm.Cond.methodLink "CakesToTheWatchedLaw" (76 : Nat) ({ cls := "CakesToTheWatched", name := "atAll", desc := "(I)I" } : Jvm.MethodName)) ∈ lw_all := lw_g (lw_at lw_m3 100 rfl) rfl
theorem q627 : (Jvm.Cond.methodLink "CakesToTheWatchedLaw" (80 : Nat) ({ cls := "CakesToTheWatched", name := "stuck", desc := "()I" } : Jvm.MethodName)) ∈ lw_all := lw_g (lw_at lw_m3 109 rfl) rfl
theorem q631 : (Jvm.Cond.methodLink "CakesToTheWatchedLaw" (85 : Nat) ({ cls := "CakesToTheWatched", name := "bring", desc := "(I)I" } : Jvm.MethodName)) ∈ lw_all := lw_g (lw_at lw_m3 113 rfl) rfl
theorem q638 : (Jvm.Cond.methodLink "CakesToTheWatchedLaw" (89 : Nat) ({ cls := "CakesToTheWatched", name := "feeds", desc := "(I)I" } : Jvm.MethodName)) ∈ lw_all := lw_g (lw_at lw_m3 120 rfl) rfl
theorem q642 : (Jvm.Cond.methodLink "CakesToTheWatchedLaw" (93 : Nat) ({ cls := "CakesToTheWatched", name := "prices", desc := "(II)I" } : Jvm.MethodName)) ∈ lw_all := lw_g (lw_at lw_m3 124 rfl) rfl
theorem q655 : (Jvm.Cond.methodLink "CakesToTheWatchedLaw" (97 : Nat) ({ cls := "CakesToTheWatched", name := "clears", desc := "(I)I" } : Jvm.MethodName)) ∈ lw_all := lw_g (lw_at lw_m3 137 rfl) rfl
theorem q659 : (Jvm.Cond.methodLink "CakesToTheWatchedLaw" (101 : Nat) ({ cls := "CakesToTheWatched", name := "swap", desc := "(I)I" } : Jvm.MethodName)) ∈ lw_all := lw_g (lw_at lw_m3 141 rfl) rfl
theorem q686 : (Jvm.Cond.methodLink "CakesToTheWatchedLaw" (105 : Nat) ({ cls := "CakesToTheWatched", name := "throat", desc := "(IIII)I" } : Jvm.MethodName)) ∈ lw_all := lw_g (lw_at lw_m3 168 rfl) rfl
theorem q699 : (Jvm.Cond.methodLink "CakesToTheWatchedLaw" (110 : Nat) ({ cls := "CakesToTheWatched", name := "lastOnes", desc := "(III)I" } : Jvm.MethodName)) ∈ lw_all := lw_g (lw_at lw_m3 181 rfl) rfl
theorem q703 : (Jvm.Cond.methodLink "CakesToTheWatchedLaw" (114 : Nat) ({ cls := "CakesToTheWatched", name := "shares", desc := "(I)I" } : Jvm.MethodName)) ∈ lw_all := lw_g (lw_at lw_m3 185 rfl) rfl
theorem q715 : (Jvm.Cond.methodLink "CakesToTheWatchedLaw" (118 : Nat) ({ cls := "CakesToTheWatched", name := "crowd", desc := "(IIII)J" } : Jvm.MethodName)) ∈ lw_all := lw_g (lw_at lw_m3 197 rfl) rfl
theorem q732 : (Jvm.Cond.methodLink "CakesToTheWatchedLaw" (123 : Nat) ({ cls := "CakesToTheWatched", name := "mean", desc := "(I)J" } : Jvm.MethodName)) ∈ lw_all := lw_g (lw_at lw_m3 214 rfl) rfl
theorem q736 : (Jvm.Cond.methodLink "CakesToTheWatchedLaw" (128 : Nat) ({ cls := "CakesToTheWatched", name := "joyless", desc := "()I" } : Jvm.MethodName)) ∈ lw_all := lw_g (lw_at lw_m3 218 rfl) rfl
theorem q740 : (Jvm.Cond.methodLink "CakesToTheWatchedLaw" (132 : Nat) ({ cls := "CakesToTheWatched", name := "seen", desc := "(I)I" } : Jvm.MethodName)) ∈ lw_all := lw_g (lw_at lw_m3 222 rfl) rfl
theorem q744 : (Jvm.Cond.methodLink "CakesToTheWatchedLaw" (136 : Nat) ({ cls := "CakesToTheWatched", name := "forged", desc := "(I)I" } : Jvm.MethodName)) ∈ lw_all := lw_g (lw_at lw_m3 226 rfl) rfl
theorem q748 : (Jvm.Cond.methodLink "CakesToTheWatchedLaw" (140 : Nat) ({ cls := "CakesToTheWatched", name := "judge", desc := "(I)I" } : Jvm.MethodName)) ∈ lw_all := lw_g (lw_at lw_m3 230 rfl) rfl
theorem q756 : (Jvm.Cond.methodLink "CakesToTheWatchedLaw" (144 : Nat) ({ cls := "CakesToTheWatched", name := "fetes", desc := "(III)I" } : Jvm.MethodName)) ∈ lw_all := lw_g (lw_at lw_m3 238 rfl) rfl
theorem q767 : (Jvm.Cond.methodLink "CakesToTheWatchedLaw" (148 : Nat) ({ cls := "CakesToTheWatched", name := "image", desc := "()I" } : Jvm.MethodName)) ∈ lw_all := lw_g (lw_at lw_m4 9 rfl) rfl
theorem q771 : (Jvm.Cond.methodLink "CakesToTheWatchedLaw" (152 : Nat) ({ cls := "CakesToTheWatched", name := "restore", desc := "()I" } : Jvm.MethodName)) ∈ lw_all := lw_g (lw_at lw_m4 13 rfl) rfl
theorem q775 : (Jvm.Cond.methodLink "CakesToTheWatchedLaw" (156 : Nat) ({ cls := "CakesToTheWatched", name := "count", desc := "(I)I" } : Jvm.MethodName)) ∈ lw_all := lw_g (lw_at lw_m4 17 rfl) rfl
theorem q779 : (Jvm.Cond.classLink "CakesToTheWatchedLaw" (8 : Nat) "CakesToTheWatched") ∈ lw_all := lw_g (lw_at lw_m4 21 rfl) rfl
theorem q780 : (Jvm.Cond.methodLink "CakesToTheWatchedLaw" (17 : Nat) ({ cls := "CakesToTheWatched", name := "<init>", desc := "()V" } : Jvm.MethodName)) ∈ lw_all := lw_g (lw_at lw_m4 22 rfl) rfl
theorem q866 : (Jvm.Cond.methodLink "CakesToTheWatchedLaw" (160 : Nat) ({ cls := "CakesToTheWatched", name := "keep", desc := "(IIII)I" } : Jvm.MethodName)) ∈ lw_all := lw_g (lw_at lw_m4 108 rfl) rfl
theorem q870 : (Jvm.Cond.methodLink "CakesToTheWatchedLaw" (164 : Nat) ({ cls := "CakesToTheWatched", name := "row", desc := "(III)I" } : Jvm.MethodName)) ∈ lw_all := lw_g (lw_at lw_m4 112 rfl) rfl
theorem q889 : (Jvm.Cond.methodLink "CakesToTheWatchedLaw" (168 : Nat) ({ cls := "CakesToTheWatched", name := "put", desc := "(III)I" } : Jvm.MethodName)) ∈ lw_all := lw_g (lw_at lw_m4 131 rfl) rfl
theorem q912 : (Jvm.Cond.methodLink "CakesToTheWatchedLaw" (181 : Nat) ({ cls := "CakesToTheWatched", name := "copy", desc := "(IIIII)I" } : Jvm.MethodName)) ∈ lw_all := lw_g (lw_at lw_m4 154 rfl) rfl
theorem q918 : (Jvm.Cond.methodLink "CakesToTheWatchedLaw" (186 : Nat) ({ cls := "CakesToTheWatched", name := "cost", desc := "(I)I" } : Jvm.MethodName)) ∈ lw_all := lw_g (lw_at lw_m4 160 rfl) rfl
theorem q976 : (Jvm.Cond.methodLink "CakesToTheWatchedLaw" (190 : Nat) ({ cls := "CakesToTheWatched", name := "toss", desc := "(I)I" } : Jvm.MethodName)) ∈ lw_all := lw_g (lw_at lw_m4 218 rfl) rfl
theorem q1028 : (Jvm.Cond.methodLink "CakesToTheWatchedLaw" (172 : Nat) ({ cls := "CakesToTheWatchedLaw", name := "element", desc := "(LCakesToTheWatched;II[J)I" } : Jvm.MethodName)) ∈ lw_all := lw_g (lw_at lw_m5 30 rfl) rfl
theorem q1029 : (Jvm.Cond.static ({ cls := "CakesToTheWatchedLaw", name := "element", desc := "(LCakesToTheWatched;II[J)I" } : Jvm.MethodName)) ∈ lw_all := lw_g (lw_at lw_m5 31 rfl) rfl
theorem q1030 : (Jvm.Cond.codeWith ({ cls := "CakesToTheWatchedLaw", name := "element", desc := "(LCakesToTheWatched;II[J)I" } : Jvm.MethodName) method_3_code (5 : Nat) (Option.some Jvm.ClassFile.FieldType.int) [((0 : Nat), (9 : Nat), (12 : Nat), (13 : Nat)), ((0 : Nat), (9 : Nat), (16 : Nat), (15 : Nat))]) ∈ lw_all := lw_g (lw_at lw_m5 32 rfl) rfl
theorem q1031 : (Jvm.Cond.classLink "CakesToTheWatchedLaw" (13 : Nat) "java/lang/IllegalArgumentException") ∈ lw_all := lw_g (lw_at lw_m5 33 rfl) rfl
theorem q1032 : (Jvm.Cond.classLink "CakesToTheWatchedLaw" (15 : Nat) "java/lang/IllegalStateException") ∈ lw_all := lw_g (lw_at lw_m5 34 rfl) rfl
theorem q1033 : (Jvm.Cond.methodLink "CakesToTheWatchedLaw" (7 : Nat) ({ cls := "CakesToTheWatched", name := "element", desc := "(II)J" } : Jvm.MethodName)) ∈ lw_all := lw_g (lw_at lw_m5 35 rfl) rfl
theorem q1067 : (Jvm.Cond.classLink "CakesToTheWatchedLaw" (18 : Nat) "CakesToTheWatchedModel") ∈ lw_all := lw_g (lw_at lw_m5 69 rfl) rfl
theorem q1069 : (Jvm.Cond.methodLink "CakesToTheWatchedLaw" (20 : Nat) ({ cls := "CakesToTheWatchedModel", name := "<init>", desc := "()V" } : Jvm.MethodName)) ∈ lw_all := lw_g (lw_at lw_m5 71 rfl) rfl
theorem q1134 : (Jvm.Cond.methodLink "CakesToTheWatchedLaw" (25 : Nat) ({ cls := "CakesToTheWatchedModel", name := "fete", desc := "(I)I" } : Jvm.MethodName)) ∈ lw_all := lw_g (lw_at lw_m5 136 rfl) rfl
theorem q1213 : (Jvm.Cond.methodLink "CakesToTheWatchedLaw" (30 : Nat) ({ cls := "CakesToTheWatchedModel", name := "person", desc := "(II)I" } : Jvm.MethodName)) ∈ lw_all := lw_g (lw_at lw_m5 215 rfl) rfl
theorem q1217 : (Jvm.Cond.methodLink "CakesToTheWatchedLaw" (35 : Nat) ({ cls := "CakesToTheWatchedModel", name := "comes", desc := "(III)I" } : Jvm.MethodName)) ∈ lw_all := lw_g (lw_at lw_m5 219 rfl) rfl
theorem q1225 : (Jvm.Cond.methodLink "CakesToTheWatchedLaw" (39 : Nat) ({ cls := "CakesToTheWatchedModel", name := "feels", desc := "(III)I" } : Jvm.MethodName)) ∈ lw_all := lw_g (lw_at lw_m5 227 rfl) rfl
theorem q1229 : (Jvm.Cond.methodLink "CakesToTheWatchedLaw" (43 : Nat) ({ cls := "CakesToTheWatchedModel", name := "slices", desc := "(I)I" } : Jvm.MethodName)) ∈ lw_all := lw_g (lw_at lw_m5 231 rfl) rfl
theorem q1233 : (Jvm.Cond.methodLink "CakesToTheWatchedLaw" (47 : Nat) ({ cls := "CakesToTheWatchedModel", name := "eats", desc := "(II)I" } : Jvm.MethodName)) ∈ lw_all := lw_g (lw_at lw_m5 235 rfl) rfl
theorem q1241 : (Jvm.Cond.methodLink "CakesToTheWatchedLaw" (51 : Nat) ({ cls := "CakesToTheWatchedModel", name := "joys", desc := "(III)I" } : Jvm.MethodName)) ∈ lw_all := lw_g (lw_at lw_m6 3 rfl) rfl
theorem q1245 : (Jvm.Cond.methodLink "CakesToTheWatchedLaw" (55 : Nat) ({ cls := "CakesToTheWatchedModel", name := "who", desc := "(I)I" } : Jvm.MethodName)) ∈ lw_all := lw_g (lw_at lw_m6 7 rfl) rfl
theorem q1249 : (Jvm.Cond.methodLink "CakesToTheWatchedLaw" (59 : Nat) ({ cls := "CakesToTheWatchedModel", name := "bestPair", desc := "(I)I" } : Jvm.MethodName)) ∈ lw_all := lw_g (lw_at lw_m6 11 rfl) rfl
theorem q1259 : (Jvm.Cond.methodLink "CakesToTheWatchedLaw" (63 : Nat) ({ cls := "CakesToTheWatchedModel", name := "bestLooker", desc := "(I)I" } : Jvm.MethodName)) ∈ lw_all := lw_g (lw_at lw_m6 21 rfl) rfl
theorem q1263 : (Jvm.Cond.methodLink "CakesToTheWatchedLaw" (67 : Nat) ({ cls := "CakesToTheWatchedModel", name := "twoTurns", desc := "(I)I" } : Jvm.MethodName)) ∈ lw_all := lw_g (lw_at lw_m6 25 rfl) rfl
theorem q1267 : (Jvm.Cond.methodLink "CakesToTheWatchedLaw" (71 : Nat) ({ cls := "CakesToTheWatchedModel", name := "pairs", desc := "(I)I" } : Jvm.MethodName)) ∈ lw_all := lw_g (lw_at lw_m6 29 rfl) rfl
theorem q1275 : (Jvm.Cond.methodLink "CakesToTheWatchedLaw" (75 : Nat) ({ cls := "CakesToTheWatchedModel", name := "greedily", desc := "(II)I" } : Jvm.MethodName)) ∈ lw_all := lw_g (lw_at lw_m6 37 rfl) rfl
theorem q1279 : (Jvm.Cond.methodLink "CakesToTheWatchedLaw" (79 : Nat) ({ cls := "CakesToTheWatchedModel", name := "atAll", desc := "(I)I" } : Jvm.MethodName)) ∈ lw_all := lw_g (lw_at lw_m6 41 rfl) rfl
theorem q1283 : (Jvm.Cond.methodLink "CakesToTheWatchedLaw" (84 : Nat) ({ cls := "CakesToTheWatchedModel", name := "stuck", desc := "()I" } : Jvm.MethodName)) ∈ lw_all := lw_g (lw_at lw_m6 45 rfl) rfl
theorem q1287 : (Jvm.Cond.methodLink "CakesToTheWatchedLaw" (88 : Nat) ({ cls := "CakesToTheWatchedModel", name := "bring", desc := "(I)I" } : Jvm.MethodName)) ∈ lw_all := lw_g (lw_at lw_m6 49 rfl) rfl
theorem q1291 : (Jvm.Cond.methodLink "CakesToTheWatchedLaw" (92 : Nat) ({ cls := "CakesToTheWatchedModel", name := "feeds", desc := "(I)I" } : Jvm.MethodName)) ∈ lw_all := lw_g (lw_at lw_m6 53 rfl) rfl
theorem q1295 : (Jvm.Cond.methodLink "CakesToTheWatchedLaw" (96 : Nat) ({ cls := "CakesToTheWatchedModel", name := "prices", desc := "(II)I" } : Jvm.MethodName)) ∈ lw_all := lw_g (lw_at lw_m6 57 rfl) rfl
theorem q1307 : (Jvm.Cond.methodLink "CakesToTheWatchedLaw" (100 : Nat) ({ cls := "CakesToTheWatchedModel", name := "clears", desc := "(I)I" } : Jvm.MethodName)) ∈ lw_all := lw_g (lw_at lw_m6 69 rfl) rfl
theorem q1311 : (Jvm.Cond.methodLink "CakesToTheWatchedLaw" (104 : Nat) ({ cls := "CakesToTheWatchedModel", name := "swap", desc := "(I)I" } : Jvm.MethodName)) ∈ lw_all := lw_g (lw_at lw_m6 73 rfl) rfl
theorem q1319 : (Jvm.Cond.methodLink "CakesToTheWatchedLaw" (109 : Nat) ({ cls := "CakesToTheWatchedModel", name := "throat", desc := "(IIII)I" } : Jvm.MethodName)) ∈ lw_all := lw_g (lw_at lw_m6 81 rfl) rfl
theorem q1326 : (Jvm.Cond.methodLink "CakesToTheWatchedLaw" (113 : Nat) ({ cls := "CakesToTheWatchedModel", name := "lastOnes", desc := "(III)I" } : Jvm.MethodName)) ∈ lw_all := lw_g (lw_at lw_m6 88 rfl) rfl
theorem q1330 : (Jvm.Cond.methodLink "CakesToTheWatchedLaw" (117 : Nat) ({ cls := "CakesToTheWatchedModel", name := "shares", desc := "(I)I" } : Jvm.MethodName)) ∈ lw_all := lw_g (lw_at lw_m6 92 rfl) rfl
theorem q1342 : (Jvm.Cond.methodLink "CakesToTheWatchedLaw" (122 : Nat) ({ cls := "CakesToTheWatchedModel", name := "crowd", desc := "(IIII)J" } : Jvm.MethodName)) ∈ lw_all := lw_g (lw_at lw_m6 104 rfl) rfl
theorem q1353 : (Jvm.Cond.methodLink "CakesToTheWatchedLaw" (127 : Nat) ({ cls := "CakesToTheWatchedModel", name := "mean", desc := "(I)J" } : Jvm.MethodName)) ∈ lw_all := lw_g (lw_at lw_m6 115 rfl) rfl
theorem q1357 : (Jvm.Cond.methodLink "CakesToTheWatchedLaw" (131 : Nat) ({ cls := "CakesToTheWatchedModel", name := "joyless", desc := "()I" } : Jvm.MethodName)) ∈ lw_all := lw_g (lw_at lw_m6 119 rfl) rfl
theorem q1361 : (Jvm.Cond.methodLink "CakesToTheWatchedLaw" (135 : Nat) ({ cls := "CakesToTheWatchedModel", name := "seen", desc := "(I)I" } : Jvm.MethodName)) ∈ lw_all := lw_g (lw_at lw_m6 123 rfl) rfl
theorem q1365 : (Jvm.Cond.methodLink "CakesToTheWatchedLaw" (139 : Nat) ({ cls := "CakesToTheWatchedModel", name := "forged", desc := "(I)I" } : Jvm.MethodName)) ∈ lw_all := lw_g (lw_at lw_m6 127 rfl) rfl
theorem q1369 : (Jvm.Cond.methodLink "CakesToTheWatchedLaw" (143 : Nat) ({ cls := "CakesToTheWatchedModel", name := "judge", desc := "(I)I" } : Jvm.MethodName)) ∈ lw_all := lw_g (lw_at lw_m6 131 rfl) rfl
theorem q1377 : (Jvm.Cond.methodLink "CakesToTheWatchedLaw" (147 : Nat) ({ cls := "CakesToTheWatchedModel", name := "fetes", desc := "(III)I" } : Jvm.MethodName)) ∈ lw_all := lw_g (lw_at lw_m6 139 rfl) rfl
theorem q1388 : (Jvm.Cond.methodLink "CakesToTheWatchedLaw" (151 : Nat) ({ cls := "CakesToTheWatchedModel", name := "image", desc := "()I" } : Jvm.MethodName)) ∈ lw_all := lw_g (lw_at lw_m6 150 rfl) rfl
theorem q1392 : (Jvm.Cond.methodLink "CakesToTheWatchedLaw" (155 : Nat) ({ cls := "CakesToTheWatchedModel", name := "restore", desc := "()I" } : Jvm.MethodName)) ∈ lw_all := lw_g (lw_at lw_m6 154 rfl) rfl
theorem q1396 : (Jvm.Cond.methodLink "CakesToTheWatchedLaw" (159 : Nat) ({ cls := "CakesToTheWatchedModel", name := "count", desc := "(I)I" } : Jvm.MethodName)) ∈ lw_all := lw_g (lw_at lw_m6 158 rfl) rfl
theorem q1400 : (Jvm.Cond.methodLink "CakesToTheWatchedLaw" (178 : Nat) ({ cls := "CakesToTheWatchedModel", name := "thrown", desc := "()I" } : Jvm.MethodName)) ∈ lw_all := lw_g (lw_at lw_m6 162 rfl) rfl
theorem q1404 : (Jvm.Cond.methodLink "CakesToTheWatchedLaw" (163 : Nat) ({ cls := "CakesToTheWatchedModel", name := "keep", desc := "(IIII)I" } : Jvm.MethodName)) ∈ lw_all := lw_g (lw_at lw_m6 166 rfl) rfl
theorem q1408 : (Jvm.Cond.methodLink "CakesToTheWatchedLaw" (167 : Nat) ({ cls := "CakesToTheWatchedModel", name := "row", desc := "(III)I" } : Jvm.MethodName)) ∈ lw_all := lw_g (lw_at lw_m6 170 rfl) rfl
theorem q1412 : (Jvm.Cond.methodLink "CakesToTheWatchedLaw" (171 : Nat) ({ cls := "CakesToTheWatchedModel", name := "put", desc := "(III)I" } : Jvm.MethodName)) ∈ lw_all := lw_g (lw_at lw_m6 174 rfl) rfl
theorem q1416 : (Jvm.Cond.methodLink "CakesToTheWatchedLaw" (177 : Nat) ({ cls := "CakesToTheWatchedModel", name := "element", desc := "(II)J" } : Jvm.MethodName)) ∈ lw_all := lw_g (lw_at lw_m6 178 rfl) rfl
theorem q1420 : (Jvm.Cond.methodLink "CakesToTheWatchedLaw" (185 : Nat) ({ cls := "CakesToTheWatchedModel", name := "copy", desc := "(IIIII)I" } : Jvm.MethodName)) ∈ lw_all := lw_g (lw_at lw_m6 182 rfl) rfl
theorem q1424 : (Jvm.Cond.methodLink "CakesToTheWatchedLaw" (189 : Nat) ({ cls := "CakesToTheWatchedModel", name := "cost", desc := "(I)I" } : Jvm.MethodName)) ∈ lw_all := lw_g (lw_at lw_m6 186 rfl) rfl
theorem q1431 : (Jvm.Cond.methodLink "CakesToTheWatchedLaw" (193 : Nat) ({ cls := "CakesToTheWatchedModel", name := "toss", desc := "(I)I" } : Jvm.MethodName)) ∈ lw_all := lw_g (lw_at lw_m6 193 rfl) rfl

/-! CakesToTheWatched$Deacon -/
set_option maxRecDepth 100000
def RX10 : String := "CakesToTheWatched$Deacon"
def TX10 : u_T := fun k => match k with
  | _ => ("CakesToTheWatched$Guest", "figure", "I", true)
def tyX10 : Nat → FieldType := fun k => match k with
  | _ => .int
abbrev wsX100 : List Cond := u_ws RX10 TX10 1
theorem nmX10 : ∀ a, a < 1 → ∀ b, b < 1 → a ≠ b → (TX10 a).2.1 ≠ (TX10 b).2.1 := by decide +kernel
theorem tyX10_ok : ∀ k, k < 1 → parseFieldDescriptor (TX10 k).2.2.1 = some (tyX10 k) := by decide +kernel
abbrev cX10_init : ByteArray := prog_7_method_1_code
def yX10_init : MethodName := ⟨RX10, "<init>", "(I)V"⟩
def dkwX10_init_0 : List UInt8 := [42, 27, 183, 0, 3, 177]
abbrev dktX10_init_0 : List UInt8 := dkwX10_init_0 ++ []
theorem dksX10_init_0 : cX10_init.data.toList.drop 0 = dktX10_init_0 := by decide +kernel
theorem dX10_init_0 : decode cX10_init 0 = .ok (.aload_n 0, 1) := dk_42 (dk_at dksX10_init_0 0 rfl rfl)
theorem dX10_init_1 : decode cX10_init 1 = .ok (.iload_n 1, 1) := dk_27 (dk_at dksX10_init_0 1 rfl rfl)
theorem dX10_init_2 : decode cX10_init 2 = .ok (.invokespecial 3, 3) := dk_183 0 3 (dk_at dksX10_init_0 2 rfl rfl)
theorem dX10_init_5 : decode cX10_init 5 = .ok (.return_, 1) := dk_177 (dk_at dksX10_init_0 5 rfl rfl)
abbrev cX10_bite : ByteArray := prog_7_method_3_code
def yX10_bite : MethodName := ⟨RX10, "bite", "()I"⟩
def dkwX10_bite_0 : List UInt8 := [42, 183, 0, 9, 42, 180, 0, 13, 5, 108, 96, 172]
abbrev dktX10_bite_0 : List UInt8 := dkwX10_bite_0 ++ []
theorem dksX10_bite_0 : cX10_bite.data.toList.drop 0 = dktX10_bite_0 := by decide +kernel
theorem dX10_bite_0 : decode cX10_bite 0 = .ok (.aload_n 0, 1) := dk_42 (dk_at dksX10_bite_0 0 rfl rfl)
theorem dX10_bite_1 : decode cX10_bite 1 = .ok (.invokespecial 9, 3) := dk_183 0 9 (dk_at dksX10_bite_0 1 rfl rfl)
theorem dX10_bite_4 : decode cX10_bite 4 = .ok (.aload_n 0, 1) := dk_42 (dk_at dksX10_bite_0 4 rfl rfl)
theorem dX10_bite_5 : decode cX10_bite 5 = .ok (.getfield 13, 3) := dk_180 0 13 (dk_at dksX10_bite_0 5 rfl rfl)
theorem dX10_bite_8 : decode cX10_bite 8 = .ok (.iconst 2, 1) := dk_5 (dk_at dksX10_bite_0 8 rfl rfl)
theorem dX10_bite_9 : decode cX10_bite 9 = .ok (.idiv, 1) := dk_108 (dk_at dksX10_bite_0 9 rfl rfl)
theorem dX10_bite_10 : decode cX10_bite 10 = .ok (.iadd, 1) := dk_96 (dk_at dksX10_bite_0 10 rfl rfl)
theorem dX10_bite_11 : decode cX10_bite 11 = .ok (.ireturn, 1) := dk_172 (dk_at dksX10_bite_0 11 rfl rfl)
abbrev cX10_shy : ByteArray := prog_7_method_5_code
def yX10_shy : MethodName := ⟨RX10, "shy", "()I"⟩
theorem dX10_shy_0 : decode cX10_shy 0 = .ok (.iconst 1, 1) := by decide +kernel
theorem dX10_shy_1 : decode cX10_shy 1 = .ok (.ireturn, 1) := by decide +kernel
abbrev cX10_gaze : ByteArray := prog_7_method_4_code
def yX10_gaze : MethodName := ⟨RX10, "gaze", "()I"⟩
def dkwX10_gaze_0 : List UInt8 := [42, 183, 0, 19, 5, 96, 172]
abbrev dktX10_gaze_0 : List UInt8 := dkwX10_gaze_0 ++ []
theorem dksX10_gaze_0 : cX10_gaze.data.toList.drop 0 = dktX10_gaze_0 := by decide +kernel
theorem dX10_gaze_0 : decode cX10_gaze 0 = .ok (.aload_n 0, 1) := dk_42 (dk_at dksX10_gaze_0 0 rfl rfl)
theorem dX10_gaze_1 : decode cX10_gaze 1 = .ok (.invokespecial 19, 3) := dk_183 0 19 (dk_at dksX10_gaze_0 1 rfl rfl)
theorem dX10_gaze_4 : decode cX10_gaze 4 = .ok (.iconst 2, 1) := dk_5 (dk_at dksX10_gaze_0 4 rfl rfl)
theorem dX10_gaze_5 : decode cX10_gaze 5 = .ok (.iadd, 1) := dk_96 (dk_at dksX10_gaze_0 5 rfl rfl)
theorem dX10_gaze_6 : decode cX10_gaze 6 = .ok (.ireturn, 1) := dk_172 (dk_at dksX10_gaze_0 6 rfl rfl)
abbrev cX10_kind : ByteArray := prog_7_method_2_code
def yX10_kind : MethodName := ⟨RX10, "kind", "()I"⟩
theorem dX10_kind_0 : decode cX10_kind 0 = .ok (.iconst 2, 1) := by decide +kernel
theorem dX10_kind_1 : decode cX10_kind 1 = .ok (.ireturn, 1) := by decide +kernel
abbrev cX10_cost : ByteArray := prog_7_method_6_code
def yX10_cost : MethodName := ⟨RX10, "cost", "()I"⟩
def dkwX10_cost_0 : List UInt8 := [42, 183, 0, 22, 42, 180, 0, 13, 96, 172]
abbrev dktX10_cost_0 : List UInt8 := dkwX10_cost_0 ++ []
theorem dksX10_cost_0 : cX10_cost.data.toList.drop 0 = dktX10_cost_0 := by decide +kernel
theorem dX10_cost_0 : decode cX10_cost 0 = .ok (.aload_n 0, 1) := dk_42 (dk_at dksX10_cost_0 0 rfl rfl)
theorem dX10_cost_1 : decode cX10_cost 1 = .ok (.invokespecial 22, 3) := dk_183 0 22 (dk_at dksX10_cost_0 1 rfl rfl)
theorem dX10_cost_4 : decode cX10_cost 4 = .ok (.aload_n 0, 1) := dk_42 (dk_at dksX10_cost_0 4 rfl rfl)
theorem dX10_cost_5 : decode cX10_cost 5 = .ok (.getfield 13, 3) := dk_180 0 13 (dk_at dksX10_cost_0 5 rfl rfl)
theorem dX10_cost_8 : decode cX10_cost 8 = .ok (.iadd, 1) := dk_96 (dk_at dksX10_cost_0 8 rfl rfl)
theorem dX10_cost_9 : decode cX10_cost 9 = .ok (.ireturn, 1) := dk_172 (dk_at dksX10_cost_0 9 rfl rfl)
theorem q54 : (Jvm.Cond.initialized "CakesToTheWatched$Deacon") ∈ lw_all := lw_g (lw_at lw_m1 16 rfl) rfl
theorem q294 : (Jvm.Cond.fieldLink "CakesToTheWatched$Deacon" (13 : Nat) "CakesToTheWatched$Deacon" "figure" "I") ∈ lw_all := lw_g (lw_at lw_m2 16 rfl) rfl
theorem q295 : (Jvm.Cond.sameField "CakesToTheWatched$Deacon" "CakesToTheWatched$Guest" "figure" "I") ∈ lw_all := lw_g (lw_at lw_m2 17 rfl) rfl
theorem q313 : (Jvm.Cond.instantiable "CakesToTheWatched$Deacon" (1 : Nat)) ∈ lw_all := lw_g (lw_at lw_m2 35 rfl) rfl
theorem q315 : (Jvm.Cond.instanceMethod ({ cls := "CakesToTheWatched$Deacon", name := "<init>", desc := "(I)V" } : Jvm.MethodName)) ∈ lw_all := lw_g (lw_at lw_m2 37 rfl) rfl
theorem q316 : (Jvm.Cond.code ({ cls := "CakesToTheWatched$Deacon", name := "<init>", desc := "(I)V" } : Jvm.MethodName) prog_7_method_1_code (2 : Nat) (Option.none : Option Jvm.ClassFile.FieldType)) ∈ lw_all := lw_g (lw_at lw_m2 38 rfl) rfl
theorem q317 : (Jvm.Cond.methodLink "CakesToTheWatched$Deacon" (3 : Nat) ({ cls := "CakesToTheWatched$Guest", name := "<init>", desc := "(I)V" } : Jvm.MethodName)) ∈ lw_all := lw_g (lw_at lw_m2 39 rfl) rfl
theorem q318 : (Jvm.Cond.laysFinal "CakesToTheWatched$Deacon" "CakesToTheWatched$Guest" "figure" "I") ∈ lw_all := lw_g (lw_at lw_m2 40 rfl) rfl
theorem q319 : (Jvm.Cond.superclass "CakesToTheWatched$Deacon" "CakesToTheWatched$Guest") ∈ lw_all := lw_g (lw_at lw_m2 41 rfl) rfl
theorem q390 : (Jvm.Cond.unhidden "CakesToTheWatched$Deacon" "sees" "()Z") ∈ lw_tbl := lw_at lw_m2 112 rfl
theorem q424 : (Jvm.Cond.selects "CakesToTheWatched$Deacon" ({ cls := "CakesToTheWatched$Eats", name := "bite", desc := "()I" } : Jvm.MethodName) ({ cls := "CakesToTheWatched$Deacon", name := "bite", desc := "()I" } : Jvm.MethodName)) ∈ lw_all := lw_g (lw_at lw_m2 146 rfl) rfl
theorem q425 : (Jvm.Cond.instanceMethod ({ cls := "CakesToTheWatched$Deacon", name := "bite", desc := "()I" } : Jvm.MethodName)) ∈ lw_all := lw_g (lw_at lw_m2 147 rfl) rfl
theorem q426 : (Jvm.Cond.code ({ cls := "CakesToTheWatched$Deacon", name := "bite", desc := "()I" } : Jvm.MethodName) prog_7_method_3_code (1 : Nat) (Option.some Jvm.ClassFile.FieldType.int)) ∈ lw_all := lw_g (lw_at lw_m2 148 rfl) rfl
theorem q449 : (Jvm.Cond.selects "CakesToTheWatched$Deacon" ({ cls := "CakesToTheWatched$Blushes", name := "shy", desc := "()I" } : Jvm.MethodName) ({ cls := "CakesToTheWatched$Deacon", name := "shy", desc := "()I" } : Jvm.MethodName)) ∈ lw_all := lw_g (lw_at lw_m2 171 rfl) rfl
theorem q450 : (Jvm.Cond.instanceMethod ({ cls := "CakesToTheWatched$Deacon", name := "shy", desc := "()I" } : Jvm.MethodName)) ∈ lw_all := lw_g (lw_at lw_m2 172 rfl) rfl
theorem q451 : (Jvm.Cond.code ({ cls := "CakesToTheWatched$Deacon", name := "shy", desc := "()I" } : Jvm.MethodName) prog_7_method_5_code (1 : Nat) (Option.some Jvm.ClassFile.FieldType.int)) ∈ lw_all := lw_g (lw_at lw_m2 173 rfl) rfl
theorem q481 : (Jvm.Cond.selects "CakesToTheWatched$Deacon" ({ cls := "CakesToTheWatched$Looks", name := "gaze", desc := "()I" } : Jvm.MethodName) ({ cls := "CakesToTheWatched$Deacon", name := "gaze", desc := "()I" } : Jvm.MethodName)) ∈ lw_all := lw_g (lw_at lw_m2 203 rfl) rfl
theorem q482 : (Jvm.Cond.instanceMethod ({ cls := "CakesToTheWatched$Deacon", name := "gaze", desc := "()I" } : Jvm.MethodName)) ∈ lw_all := lw_g (lw_at lw_m2 204 rfl) rfl
theorem q483 : (Jvm.Cond.code ({ cls := "CakesToTheWatched$Deacon", name := "gaze", desc := "()I" } : Jvm.MethodName) prog_7_method_4_code (1 : Nat) (Option.some Jvm.ClassFile.FieldType.int)) ∈ lw_all := lw_g (lw_at lw_m2 205 rfl) rfl
theorem q516 : (Jvm.Cond.selects "CakesToTheWatched$Deacon" ({ cls := "CakesToTheWatched$Guest", name := "kind", desc := "()I" } : Jvm.MethodName) ({ cls := "CakesToTheWatched$Deacon", name := "kind", desc := "()I" } : Jvm.MethodName)) ∈ lw_all := lw_g (lw_at lw_m2 238 rfl) rfl
theorem q517 : (Jvm.Cond.instanceMethod ({ cls := "CakesToTheWatched$Deacon", name := "kind", desc := "()I" } : Jvm.MethodName)) ∈ lw_all := lw_g (lw_at lw_m2 239 rfl) rfl
theorem q518 : (Jvm.Cond.code ({ cls := "CakesToTheWatched$Deacon", name := "kind", desc := "()I" } : Jvm.MethodName) prog_7_method_2_code (1 : Nat) (Option.some Jvm.ClassFile.FieldType.int)) ∈ lw_all := lw_g (lw_at lw_m3 0 rfl) rfl
theorem q960 : (Jvm.Cond.selects "CakesToTheWatched$Deacon" ({ cls := "CakesToTheWatched$Guest", name := "cost", desc := "()I" } : Jvm.MethodName) ({ cls := "CakesToTheWatched$Deacon", name := "cost", desc := "()I" } : Jvm.MethodName)) ∈ lw_all := lw_g (lw_at lw_m4 202 rfl) rfl
theorem q961 : (Jvm.Cond.instanceMethod ({ cls := "CakesToTheWatched$Deacon", name := "cost", desc := "()I" } : Jvm.MethodName)) ∈ lw_all := lw_g (lw_at lw_m4 203 rfl) rfl
theorem q962 : (Jvm.Cond.code ({ cls := "CakesToTheWatched$Deacon", name := "cost", desc := "()I" } : Jvm.MethodName) prog_7_method_6_code (1 : Nat) (Option.some Jvm.ClassFile.FieldType.int)) ∈ lw_all := lw_g (lw_at lw_m4 204 rfl) rfl
theorem q963 : (Jvm.Cond.methodLink "CakesToTheWatched$Deacon" (22 : Nat) ({ cls := "CakesToTheWatched$Guest", name := "cost", desc := "()I" } : Jvm.MethodName)) ∈ lw_all := lw_g (lw_at lw_m4 205 rfl) rfl
theorem q992 : (Jvm.Cond.selects "CakesToTheWatched$Deacon" ({ cls := "CakesToTheWatched$Guest", name := "failure", desc := "()LCakesToTheWatched$Tossed;" } : Jvm.MethodName) ({ cls := "CakesToTheWatched$Guest", name := "failure", desc := "()LCakesToTheWatched$Tossed;" } : Jvm.MethodName)) ∈ lw_all := lw_g (lw_at lw_m4 234 rfl) rfl
theorem q1452 : (Jvm.Cond.castable "CakesToTheWatched$Deacon" "CakesToTheWatched$Guest") ∈ lw_tbl := lw_at lw_m6 214 rfl
theorem in_X10 : ∀ w ∈ wsX100, w ∈ lw_all := lw_in wsX100 [318] (by decide +kernel) (by decide +kernel)

/-! CakesToTheWatched$Taster -/
set_option maxRecDepth 100000
def RX11 : String := "CakesToTheWatched$Taster"
def TX11 : u_T := fun k => match k with
  | _ => ("CakesToTheWatched$Guest", "figure", "I", true)
def tyX11 : Nat → FieldType := fun k => match k with
  | _ => .int
abbrev wsX110 : List Cond := u_ws RX11 TX11 1
theorem nmX11 : ∀ a, a < 1 → ∀ b, b < 1 → a ≠ b → (TX11 a).2.1 ≠ (TX11 b).2.1 := by decide +kernel
theorem tyX11_ok : ∀ k, k < 1 → parseFieldDescriptor (TX11 k).2.2.1 = some (tyX11 k) := by decide +kernel
abbrev cX11_init : ByteArray := prog_16_method_1_code
def yX11_init : MethodName := ⟨RX11, "<init>", "(I)V"⟩
def dkwX11_init_0 : List UInt8 := [42, 27, 183, 0, 3, 177]
abbrev dktX11_init_0 : List UInt8 := dkwX11_init_0 ++ []
theorem dksX11_init_0 : cX11_init.data.toList.drop 0 = dktX11_init_0 := by decide +kernel
theorem dX11_init_0 : decode cX11_init 0 = .ok (.aload_n 0, 1) := dk_42 (dk_at dksX11_init_0 0 rfl rfl)
theorem dX11_init_1 : decode cX11_init 1 = .ok (.iload_n 1, 1) := dk_27 (dk_at dksX11_init_0 1 rfl rfl)
theorem dX11_init_2 : decode cX11_init 2 = .ok (.invokespecial 3, 3) := dk_183 0 3 (dk_at dksX11_init_0 2 rfl rfl)
theorem dX11_init_5 : decode cX11_init 5 = .ok (.return_, 1) := dk_177 (dk_at dksX11_init_0 5 rfl rfl)
abbrev cX11_bite : ByteArray := prog_16_method_3_code
def yX11_bite : MethodName := ⟨RX11, "bite", "()I"⟩
theorem dX11_bite_0 : decode cX11_bite 0 = .ok (.iconst 1, 1) := by decide +kernel
theorem dX11_bite_1 : decode cX11_bite 1 = .ok (.ireturn, 1) := by decide +kernel
abbrev cX11_gaze : ByteArray := prog_16_method_4_code
def yX11_gaze : MethodName := ⟨RX11, "gaze", "()I"⟩
def dkwX11_gaze_0 : List UInt8 := [42, 183, 0, 9, 42, 180, 0, 13, 6, 108, 96, 172]
abbrev dktX11_gaze_0 : List UInt8 := dkwX11_gaze_0 ++ []
theorem dksX11_gaze_0 : cX11_gaze.data.toList.drop 0 = dktX11_gaze_0 := by decide +kernel
theorem dX11_gaze_0 : decode cX11_gaze 0 = .ok (.aload_n 0, 1) := dk_42 (dk_at dksX11_gaze_0 0 rfl rfl)
theorem dX11_gaze_1 : decode cX11_gaze 1 = .ok (.invokespecial 9, 3) := dk_183 0 9 (dk_at dksX11_gaze_0 1 rfl rfl)
theorem dX11_gaze_4 : decode cX11_gaze 4 = .ok (.aload_n 0, 1) := dk_42 (dk_at dksX11_gaze_0 4 rfl rfl)
theorem dX11_gaze_5 : decode cX11_gaze 5 = .ok (.getfield 13, 3) := dk_180 0 13 (dk_at dksX11_gaze_0 5 rfl rfl)
theorem dX11_gaze_8 : decode cX11_gaze 8 = .ok (.iconst 3, 1) := dk_6 (dk_at dksX11_gaze_0 8 rfl rfl)
theorem dX11_gaze_9 : decode cX11_gaze 9 = .ok (.idiv, 1) := dk_108 (dk_at dksX11_gaze_0 9 rfl rfl)
theorem dX11_gaze_10 : decode cX11_gaze 10 = .ok (.iadd, 1) := dk_96 (dk_at dksX11_gaze_0 10 rfl rfl)
theorem dX11_gaze_11 : decode cX11_gaze 11 = .ok (.ireturn, 1) := dk_172 (dk_at dksX11_gaze_0 11 rfl rfl)
abbrev cX11_kind : ByteArray := prog_16_method_2_code
def yX11_kind : MethodName := ⟨RX11, "kind", "()I"⟩
theorem dX11_kind_0 : decode cX11_kind 0 = .ok (.iconst 3, 1) := by decide +kernel
theorem dX11_kind_1 : decode cX11_kind 1 = .ok (.ireturn, 1) := by decide +kernel
abbrev cX11_cost : ByteArray := prog_16_method_5_code
def yX11_cost : MethodName := ⟨RX11, "cost", "()I"⟩
def dkwX11_cost_0 : List UInt8 := [42, 183, 0, 19, 16, 6, 96, 172]
abbrev dktX11_cost_0 : List UInt8 := dkwX11_cost_0 ++ []
theorem dksX11_cost_0 : cX11_cost.data.toList.drop 0 = dktX11_cost_0 := by decide +kernel
theorem dX11_cost_0 : decode cX11_cost 0 = .ok (.aload_n 0, 1) := dk_42 (dk_at dksX11_cost_0 0 rfl rfl)
theorem dX11_cost_1 : decode cX11_cost 1 = .ok (.invokespecial 19, 3) := dk_183 0 19 (dk_at dksX11_cost_0 1 rfl rfl)
theorem dX11_cost_4 : decode cX11_cost 4 = .ok (.bipush 6, 2) := dk_16 6 (dk_at dksX11_cost_0 4 rfl rfl)
theorem dX11_cost_6 : decode cX11_cost 6 = .ok (.iadd, 1) := dk_96 (dk_at dksX11_cost_0 6 rfl rfl)
theorem dX11_cost_7 : decode cX11_cost 7 = .ok (.ireturn, 1) := dk_172 (dk_at dksX11_cost_0 7 rfl rfl)
abbrev cX11_failure : ByteArray := prog_16_method_6_code
def yX11_failure : MethodName := ⟨RX11, "failure", "()LCakesToTheWatched$Tossed;"⟩
def dkwX11_failure_1 : List UInt8 := [183, 0, 31, 176]
abbrev dktX11_failure_1 : List UInt8 := dkwX11_failure_1 ++ []
def dkwX11_failure_0 : List UInt8 := [42, 183, 0, 22, 76, 43, 199, 0, 7, 1, 167, 0, 17, 187, 0, 26, 89, 43, 180, 0, 28, 16, 100, 96]
abbrev dktX11_failure_0 : List UInt8 := dkwX11_failure_0 ++ dktX11_failure_1
theorem dksX11_failure_0 : cX11_failure.data.toList.drop 0 = dktX11_failure_0 := by decide +kernel
theorem dksX11_failure_1 : cX11_failure.data.toList.drop 24 = dktX11_failure_1 := dk_seg dksX11_failure_0 24 rfl rfl
theorem dX11_failure_0 : decode cX11_failure 0 = .ok (.aload_n 0, 1) := dk_42 (dk_at dksX11_failure_0 0 rfl rfl)
theorem dX11_failure_1 : decode cX11_failure 1 = .ok (.invokespecial 22, 3) := dk_183 0 22 (dk_at dksX11_failure_0 1 rfl rfl)
theorem dX11_failure_4 : decode cX11_failure 4 = .ok (.astore_n 1, 1) := dk_76 (dk_at dksX11_failure_0 4 rfl rfl)
theorem dX11_failure_5 : decode cX11_failure 5 = .ok (.aload_n 1, 1) := dk_43 (dk_at dksX11_failure_0 5 rfl rfl)
theorem dX11_failure_6 : decode cX11_failure 6 = .ok (.ifnonnull 7, 3) := dk_199 0 7 (dk_at dksX11_failure_0 6 rfl rfl)
theorem dX11_failure_9 : decode cX11_failure 9 = .ok (.aconst_null, 1) := dk_1 (dk_at dksX11_failure_0 9 rfl rfl)
theorem dX11_failure_10 : decode cX11_failure 10 = .ok (.goto 17, 3) := dk_167 0 17 (dk_at dksX11_failure_0 10 rfl rfl)
theorem dX11_failure_13 : decode cX11_failure 13 = .ok (.new 26, 3) := dk_187 0 26 (dk_at dksX11_failure_0 13 rfl rfl)
theorem dX11_failure_16 : decode cX11_failure 16 = .ok (.dup, 1) := dk_89 (dk_at dksX11_failure_0 16 rfl rfl)
theorem dX11_failure_17 : decode cX11_failure 17 = .ok (.aload_n 1, 1) := dk_43 (dk_at dksX11_failure_0 17 rfl rfl)
theorem dX11_failure_18 : decode cX11_failure 18 = .ok (.getfield 28, 3) := dk_180 0 28 (dk_at dksX11_failure_0 18 rfl rfl)
theorem dX11_failure_21 : decode cX11_failure 21 = .ok (.bipush 100, 2) := dk_16 100 (dk_at dksX11_failure_0 21 rfl rfl)
theorem dX11_failure_23 : decode cX11_failure 23 = .ok (.iadd, 1) := dk_96 (dk_at dksX11_failure_0 23 rfl rfl)
theorem dX11_failure_24 : decode cX11_failure 24 = .ok (.invokespecial 31, 3) := dk_183 0 31 (dk_at dksX11_failure_1 0 rfl rfl)
theorem dX11_failure_27 : decode cX11_failure 27 = .ok (.areturn, 1) := dk_176 (dk_at dksX11_failure_1 3 rfl rfl)
theorem q55 : (Jvm.Cond.initialized "CakesToTheWatched$Taster") ∈ lw_all := lw_g (lw_at lw_m1 17 rfl) rfl
theorem q296 : (Jvm.Cond.fieldLink "CakesToTheWatched$Taster" (13 : Nat) "CakesToTheWatched$Taster" "figure" "I") ∈ lw_all := lw_g (lw_at lw_m2 18 rfl) rfl
theorem q297 : (Jvm.Cond.sameField "CakesToTheWatched$Taster" "CakesToTheWatched$Guest" "figure" "I") ∈ lw_all := lw_g (lw_at lw_m2 19 rfl) rfl
theorem q321 : (Jvm.Cond.instantiable "CakesToTheWatched$Taster" (1 : Nat)) ∈ lw_all := lw_g (lw_at lw_m2 43 rfl) rfl
theorem q323 : (Jvm.Cond.instanceMethod ({ cls := "CakesToTheWatched$Taster", name := "<init>", desc := "(I)V" } : Jvm.MethodName)) ∈ lw_all := lw_g (lw_at lw_m2 45 rfl) rfl
theorem q324 : (Jvm.Cond.code ({ cls := "CakesToTheWatched$Taster", name := "<init>", desc := "(I)V" } : Jvm.MethodName) prog_16_method_1_code (2 : Nat) (Option.none : Option Jvm.ClassFile.FieldType)) ∈ lw_all := lw_g (lw_at lw_m2 46 rfl) rfl
theorem q325 : (Jvm.Cond.methodLink "CakesToTheWatched$Taster" (3 : Nat) ({ cls := "CakesToTheWatched$Guest", name := "<init>", desc := "(I)V" } : Jvm.MethodName)) ∈ lw_all := lw_g (lw_at lw_m2 47 rfl) rfl
theorem q326 : (Jvm.Cond.laysFinal "CakesToTheWatched$Taster" "CakesToTheWatched$Guest" "figure" "I") ∈ lw_all := lw_g (lw_at lw_m2 48 rfl) rfl
theorem q327 : (Jvm.Cond.superclass "CakesToTheWatched$Taster" "CakesToTheWatched$Guest") ∈ lw_all := lw_g (lw_at lw_m2 49 rfl) rfl
theorem q393 : (Jvm.Cond.unhidden "CakesToTheWatched$Taster" "sees" "()Z") ∈ lw_tbl := lw_at lw_m2 115 rfl
theorem q431 : (Jvm.Cond.instanceMethod ({ cls := "CakesToTheWatched$Taster", name := "bite", desc := "()I" } : Jvm.MethodName)) ∈ lw_all := lw_g (lw_at lw_m2 153 rfl) rfl
theorem q432 : (Jvm.Cond.code ({ cls := "CakesToTheWatched$Taster", name := "bite", desc := "()I" } : Jvm.MethodName) prog_16_method_3_code (1 : Nat) (Option.some Jvm.ClassFile.FieldType.int)) ∈ lw_all := lw_g (lw_at lw_m2 154 rfl) rfl
theorem q434 : (Jvm.Cond.selects "CakesToTheWatched$Taster" ({ cls := "CakesToTheWatched$Eats", name := "bite", desc := "()I" } : Jvm.MethodName) ({ cls := "CakesToTheWatched$Taster", name := "bite", desc := "()I" } : Jvm.MethodName)) ∈ lw_all := lw_g (lw_at lw_m2 156 rfl) rfl
theorem q454 : (Jvm.Cond.unhidden "CakesToTheWatched$Taster" "shy" "()I") ∈ lw_tbl := lw_at lw_m2 176 rfl
theorem q488 : (Jvm.Cond.instanceMethod ({ cls := "CakesToTheWatched$Taster", name := "gaze", desc := "()I" } : Jvm.MethodName)) ∈ lw_all := lw_g (lw_at lw_m2 210 rfl) rfl
theorem q489 : (Jvm.Cond.code ({ cls := "CakesToTheWatched$Taster", name := "gaze", desc := "()I" } : Jvm.MethodName) prog_16_method_4_code (1 : Nat) (Option.some Jvm.ClassFile.FieldType.int)) ∈ lw_all := lw_g (lw_at lw_m2 211 rfl) rfl
theorem q491 : (Jvm.Cond.selects "CakesToTheWatched$Taster" ({ cls := "CakesToTheWatched$Looks", name := "gaze", desc := "()I" } : Jvm.MethodName) ({ cls := "CakesToTheWatched$Taster", name := "gaze", desc := "()I" } : Jvm.MethodName)) ∈ lw_all := lw_g (lw_at lw_m2 213 rfl) rfl
theorem q522 : (Jvm.Cond.selects "CakesToTheWatched$Taster" ({ cls := "CakesToTheWatched$Guest", name := "kind", desc := "()I" } : Jvm.MethodName) ({ cls := "CakesToTheWatched$Taster", name := "kind", desc := "()I" } : Jvm.MethodName)) ∈ lw_all := lw_g (lw_at lw_m3 4 rfl) rfl
theorem q523 : (Jvm.Cond.instanceMethod ({ cls := "CakesToTheWatched$Taster", name := "kind", desc := "()I" } : Jvm.MethodName)) ∈ lw_all := lw_g (lw_at lw_m3 5 rfl) rfl
theorem q524 : (Jvm.Cond.code ({ cls := "CakesToTheWatched$Taster", name := "kind", desc := "()I" } : Jvm.MethodName) prog_16_method_2_code (1 : Nat) (Option.some Jvm.ClassFile.FieldType.int)) ∈ lw_all := lw_g (lw_at lw_m3 6 rfl) rfl
theorem q968 : (Jvm.Cond.instanceMethod ({ cls := "CakesToTheWatched$Taster", name := "cost", desc := "()I" } : Jvm.MethodName)) ∈ lw_all := lw_g (lw_at lw_m4 210 rfl) rfl
theorem q969 : (Jvm.Cond.code ({ cls := "CakesToTheWatched$Taster", name := "cost", desc := "()I" } : Jvm.MethodName) prog_16_method_5_code (1 : Nat) (Option.some Jvm.ClassFile.FieldType.int)) ∈ lw_all := lw_g (lw_at lw_m4 211 rfl) rfl
theorem q970 : (Jvm.Cond.methodLink "CakesToTheWatched$Taster" (19 : Nat) ({ cls := "CakesToTheWatched$Guest", name := "cost", desc := "()I" } : Jvm.MethodName)) ∈ lw_all := lw_g (lw_at lw_m4 212 rfl) rfl
theorem q971 : (Jvm.Cond.selects "CakesToTheWatched$Taster" ({ cls := "CakesToTheWatched$Guest", name := "cost", desc := "()I" } : Jvm.MethodName) ({ cls := "CakesToTheWatched$Taster", name := "cost", desc := "()I" } : Jvm.MethodName)) ∈ lw_all := lw_g (lw_at lw_m4 213 rfl) rfl
theorem q997 : (Jvm.Cond.instanceMethod ({ cls := "CakesToTheWatched$Taster", name := "failure", desc := "()LCakesToTheWatched$Tossed;" } : Jvm.MethodName)) ∈ lw_all := lw_g (lw_at lw_m4 239 rfl) rfl
theorem q998 : (Jvm.Cond.code ({ cls := "CakesToTheWatched$Taster", name := "failure", desc := "()LCakesToTheWatched$Tossed;" } : Jvm.MethodName) prog_16_method_6_code (2 : Nat) (Option.some (Jvm.ClassFile.FieldType.object "CakesToTheWatched$Tossed"))) ∈ lw_all := lw_g (lw_at lw_m5 0 rfl) rfl
theorem q999 : (Jvm.Cond.methodLink "CakesToTheWatched$Taster" (22 : Nat) ({ cls := "CakesToTheWatched$Guest", name := "failure", desc := "()LCakesToTheWatched$Tossed;" } : Jvm.MethodName)) ∈ lw_all := lw_g (lw_at lw_m5 1 rfl) rfl
theorem q1015 : (Jvm.Cond.fieldLink "CakesToTheWatched$Taster" (28 : Nat) "CakesToTheWatched$Tossed" "n" "I") ∈ lw_all := lw_g (lw_at lw_m5 17 rfl) rfl
theorem q1021 : (Jvm.Cond.classLink "CakesToTheWatched$Taster" (26 : Nat) "CakesToTheWatched$Tossed") ∈ lw_all := lw_g (lw_at lw_m5 23 rfl) rfl
theorem q1022 : (Jvm.Cond.methodLink "CakesToTheWatched$Taster" (31 : Nat) ({ cls := "CakesToTheWatched$Tossed", name := "<init>", desc := "(I)V" } : Jvm.MethodName)) ∈ lw_all := lw_g (lw_at lw_m5 24 rfl) rfl
theorem q1026 : (Jvm.Cond.selects "CakesToTheWatched$Taster" ({ cls := "CakesToTheWatched$Guest", name := "failure", desc := "()LCakesToTheWatched$Tossed;" } : Jvm.MethodName) ({ cls := "CakesToTheWatched$Taster", name := "failure", desc := "()LCakesToTheWatched$Tossed;" } : Jvm.MethodName)) ∈ lw_all := lw_g (lw_at lw_m5 28 rfl) rfl
theorem q1437 : (Jvm.Cond.sameMethod "CakesToTheWatched$Taster" "CakesToTheWatched$Taster" "bite" "()I") ∈ lw_all := lw_g (lw_at lw_m6 199 rfl) rfl
theorem q1440 : (Jvm.Cond.sameMethod "CakesToTheWatched$Taster" "CakesToTheWatched$Taster" "gaze" "()I") ∈ lw_all := lw_g (lw_at lw_m6 202 rfl) rfl
theorem q1441 : (Jvm.Cond.sameMethod "CakesToTheWatched$Taster" "CakesToTheWatched$Taster" "cost" "()I") ∈ lw_all := lw_g (lw_at lw_m6 203 rfl) rfl
theorem q1443 : (Jvm.Cond.sameMethod "CakesToTheWatched$Taster" "CakesToTheWatched$Taster" "failure" "()LCakesToTheWatched$Tossed;") ∈ lw_all := lw_g (lw_at lw_m6 205 rfl) rfl
theorem q1454 : (Jvm.Cond.castable "CakesToTheWatched$Taster" "CakesToTheWatched$Guest") ∈ lw_tbl := lw_at lw_m6 216 rfl
theorem in_X11 : ∀ w ∈ wsX110, w ∈ lw_all := lw_in wsX110 [326] (by decide +kernel) (by decide +kernel)

/-! CakesToTheWatched$Blind -/
set_option maxRecDepth 100000
def RX12 : String := "CakesToTheWatched$Blind"
def TX12 : u_T := fun k => match k with
  | _ => ("CakesToTheWatched$Guest", "figure", "I", true)
def tyX12 : Nat → FieldType := fun k => match k with
  | _ => .int
abbrev wsX120 : List Cond := u_ws RX12 TX12 1
theorem nmX12 : ∀ a, a < 1 → ∀ b, b < 1 → a ≠ b → (TX12 a).2.1 ≠ (TX12 b).2.1 := by decide +kernel
theorem tyX12_ok : ∀ k, k < 1 → parseFieldDescriptor (TX12 k).2.2.1 = some (tyX12 k) := by decide +kernel
abbrev cX12_init : ByteArray := prog_2_method_1_code
def yX12_init : MethodName := ⟨RX12, "<init>", "(I)V"⟩
def dkwX12_init_0 : List UInt8 := [42, 27, 183, 0, 3, 177]
abbrev dktX12_init_0 : List UInt8 := dkwX12_init_0 ++ []
theorem dksX12_init_0 : cX12_init.data.toList.drop 0 = dktX12_init_0 := by decide +kernel
theorem dX12_init_0 : decode cX12_init 0 = .ok (.aload_n 0, 1) := dk_42 (dk_at dksX12_init_0 0 rfl rfl)
theorem dX12_init_1 : decode cX12_init 1 = .ok (.iload_n 1, 1) := dk_27 (dk_at dksX12_init_0 1 rfl rfl)
theorem dX12_init_2 : decode cX12_init 2 = .ok (.invokespecial 3, 3) := dk_183 0 3 (dk_at dksX12_init_0 2 rfl rfl)
theorem dX12_init_5 : decode cX12_init 5 = .ok (.return_, 1) := dk_177 (dk_at dksX12_init_0 5 rfl rfl)
abbrev cX12_sees : ByteArray := prog_2_method_4_code
def yX12_sees : MethodName := ⟨RX12, "sees", "()Z"⟩
theorem dX12_sees_0 : decode cX12_sees 0 = .ok (.iconst 0, 1) := by decide +kernel
theorem dX12_sees_1 : decode cX12_sees 1 = .ok (.ireturn, 1) := by decide +kernel
abbrev cX12_gaze : ByteArray := prog_2_method_3_code
def yX12_gaze : MethodName := ⟨RX12, "gaze", "()I"⟩
theorem dX12_gaze_0 : decode cX12_gaze 0 = .ok (.iconst 0, 1) := by decide +kernel
theorem dX12_gaze_1 : decode cX12_gaze 1 = .ok (.ireturn, 1) := by decide +kernel
abbrev cX12_kind : ByteArray := prog_2_method_2_code
def yX12_kind : MethodName := ⟨RX12, "kind", "()I"⟩
theorem dX12_kind_0 : decode cX12_kind 0 = .ok (.iconst 4, 1) := by decide +kernel
theorem dX12_kind_1 : decode cX12_kind 1 = .ok (.ireturn, 1) := by decide +kernel
abbrev cX12_cost : ByteArray := prog_2_method_5_code
def yX12_cost : MethodName := ⟨RX12, "cost", "()I"⟩
def dkwX12_cost_0 : List UInt8 := [42, 183, 0, 9, 5, 108, 172]
abbrev dktX12_cost_0 : List UInt8 := dkwX12_cost_0 ++ []
theorem dksX12_cost_0 : cX12_cost.data.toList.drop 0 = dktX12_cost_0 := by decide +kernel
theorem dX12_cost_0 : decode cX12_cost 0 = .ok (.aload_n 0, 1) := dk_42 (dk_at dksX12_cost_0 0 rfl rfl)
theorem dX12_cost_1 : decode cX12_cost 1 = .ok (.invokespecial 9, 3) := dk_183 0 9 (dk_at dksX12_cost_0 1 rfl rfl)
theorem dX12_cost_4 : decode cX12_cost 4 = .ok (.iconst 2, 1) := dk_5 (dk_at dksX12_cost_0 4 rfl rfl)
theorem dX12_cost_5 : decode cX12_cost 5 = .ok (.idiv, 1) := dk_108 (dk_at dksX12_cost_0 5 rfl rfl)
theorem dX12_cost_6 : decode cX12_cost 6 = .ok (.ireturn, 1) := dk_172 (dk_at dksX12_cost_0 6 rfl rfl)
abbrev cX12_failure : ByteArray := prog_2_method_6_code
def yX12_failure : MethodName := ⟨RX12, "failure", "()LCakesToTheWatched$Tossed;"⟩
theorem dX12_failure_0 : decode cX12_failure 0 = .ok (.aconst_null, 1) := by decide +kernel
theorem dX12_failure_1 : decode cX12_failure 1 = .ok (.areturn, 1) := by decide +kernel
theorem q56 : (Jvm.Cond.initialized "CakesToTheWatched$Blind") ∈ lw_all := lw_g (lw_at lw_m1 18 rfl) rfl
theorem q329 : (Jvm.Cond.instantiable "CakesToTheWatched$Blind" (1 : Nat)) ∈ lw_all := lw_g (lw_at lw_m2 51 rfl) rfl
theorem q331 : (Jvm.Cond.instanceMethod ({ cls := "CakesToTheWatched$Blind", name := "<init>", desc := "(I)V" } : Jvm.MethodName)) ∈ lw_all := lw_g (lw_at lw_m2 53 rfl) rfl
theorem q332 : (Jvm.Cond.code ({ cls := "CakesToTheWatched$Blind", name := "<init>", desc := "(I)V" } : Jvm.MethodName) prog_2_method_1_code (2 : Nat) (Option.none : Option Jvm.ClassFile.FieldType)) ∈ lw_all := lw_g (lw_at lw_m2 54 rfl) rfl
theorem q333 : (Jvm.Cond.methodLink "CakesToTheWatched$Blind" (3 : Nat) ({ cls := "CakesToTheWatched$Guest", name := "<init>", desc := "(I)V" } : Jvm.MethodName)) ∈ lw_all := lw_g (lw_at lw_m2 55 rfl) rfl
theorem q334 : (Jvm.Cond.laysFinal "CakesToTheWatched$Blind" "CakesToTheWatched$Guest" "figure" "I") ∈ lw_all := lw_g (lw_at lw_m2 56 rfl) rfl
theorem q335 : (Jvm.Cond.superclass "CakesToTheWatched$Blind" "CakesToTheWatched$Guest") ∈ lw_all := lw_g (lw_at lw_m2 57 rfl) rfl
theorem q385 : (Jvm.Cond.selects "CakesToTheWatched$Blind" ({ cls := "CakesToTheWatched$Looks", name := "sees", desc := "()Z" } : Jvm.MethodName) ({ cls := "CakesToTheWatched$Blind", name := "sees", desc := "()Z" } : Jvm.MethodName)) ∈ lw_all := lw_g (lw_at lw_m2 107 rfl) rfl
theorem q386 : (Jvm.Cond.instanceMethod ({ cls := "CakesToTheWatched$Blind", name := "sees", desc := "()Z" } : Jvm.MethodName)) ∈ lw_all := lw_g (lw_at lw_m2 108 rfl) rfl
theorem q387 : (Jvm.Cond.code ({ cls := "CakesToTheWatched$Blind", name := "sees", desc := "()Z" } : Jvm.MethodName) prog_2_method_4_code (1 : Nat) (Option.some Jvm.ClassFile.FieldType.boolean)) ∈ lw_all := lw_g (lw_at lw_m2 109 rfl) rfl
theorem q415 : (Jvm.Cond.unhidden "CakesToTheWatched$Blind" "bite" "()I") ∈ lw_tbl := lw_at lw_m2 137 rfl
theorem q444 : (Jvm.Cond.unhidden "CakesToTheWatched$Blind" "shy" "()I") ∈ lw_tbl := lw_at lw_m2 166 rfl
theorem q470 : (Jvm.Cond.selects "CakesToTheWatched$Blind" ({ cls := "CakesToTheWatched$Looks", name := "gaze", desc := "()I" } : Jvm.MethodName) ({ cls := "CakesToTheWatched$Blind", name := "gaze", desc := "()I" } : Jvm.MethodName)) ∈ lw_all := lw_g (lw_at lw_m2 192 rfl) rfl
theorem q471 : (Jvm.Cond.instanceMethod ({ cls := "CakesToTheWatched$Blind", name := "gaze", desc := "()I" } : Jvm.MethodName)) ∈ lw_all := lw_g (lw_at lw_m2 193 rfl) rfl
theorem q472 : (Jvm.Cond.code ({ cls := "CakesToTheWatched$Blind", name := "gaze", desc := "()I" } : Jvm.MethodName) prog_2_method_3_code (1 : Nat) (Option.some Jvm.ClassFile.FieldType.int)) ∈ lw_all := lw_g (lw_at lw_m2 194 rfl) rfl
theorem q507 : (Jvm.Cond.selects "CakesToTheWatched$Blind" ({ cls := "CakesToTheWatched$Guest", name := "kind", desc := "()I" } : Jvm.MethodName) ({ cls := "CakesToTheWatched$Blind", name := "kind", desc := "()I" } : Jvm.MethodName)) ∈ lw_all := lw_g (lw_at lw_m2 229 rfl) rfl
theorem q508 : (Jvm.Cond.instanceMethod ({ cls := "CakesToTheWatched$Blind", name := "kind", desc := "()I" } : Jvm.MethodName)) ∈ lw_all := lw_g (lw_at lw_m2 230 rfl) rfl
theorem q509 : (Jvm.Cond.code ({ cls := "CakesToTheWatched$Blind", name := "kind", desc := "()I" } : Jvm.MethodName) prog_2_method_2_code (1 : Nat) (Option.some Jvm.ClassFile.FieldType.int)) ∈ lw_all := lw_g (lw_at lw_m2 231 rfl) rfl
theorem q948 : (Jvm.Cond.selects "CakesToTheWatched$Blind" ({ cls := "CakesToTheWatched$Guest", name := "cost", desc := "()I" } : Jvm.MethodName) ({ cls := "CakesToTheWatched$Blind", name := "cost", desc := "()I" } : Jvm.MethodName)) ∈ lw_all := lw_g (lw_at lw_m4 190 rfl) rfl
theorem q949 : (Jvm.Cond.instanceMethod ({ cls := "CakesToTheWatched$Blind", name := "cost", desc := "()I" } : Jvm.MethodName)) ∈ lw_all := lw_g (lw_at lw_m4 191 rfl) rfl
theorem q950 : (Jvm.Cond.code ({ cls := "CakesToTheWatched$Blind", name := "cost", desc := "()I" } : Jvm.MethodName) prog_2_method_5_code (1 : Nat) (Option.some Jvm.ClassFile.FieldType.int)) ∈ lw_all := lw_g (lw_at lw_m4 192 rfl) rfl
theorem q951 : (Jvm.Cond.methodLink "CakesToTheWatched$Blind" (9 : Nat) ({ cls := "CakesToTheWatched$Guest", name := "cost", desc := "()I" } : Jvm.MethodName)) ∈ lw_all := lw_g (lw_at lw_m4 193 rfl) rfl
theorem q985 : (Jvm.Cond.selects "CakesToTheWatched$Blind" ({ cls := "CakesToTheWatched$Guest", name := "failure", desc := "()LCakesToTheWatched$Tossed;" } : Jvm.MethodName) ({ cls := "CakesToTheWatched$Blind", name := "failure", desc := "()LCakesToTheWatched$Tossed;" } : Jvm.MethodName)) ∈ lw_all := lw_g (lw_at lw_m4 227 rfl) rfl
theorem q986 : (Jvm.Cond.instanceMethod ({ cls := "CakesToTheWatched$Blind", name := "failure", desc := "()LCakesToTheWatched$Tossed;" } : Jvm.MethodName)) ∈ lw_all := lw_g (lw_at lw_m4 228 rfl) rfl
theorem q987 : (Jvm.Cond.code ({ cls := "CakesToTheWatched$Blind", name := "failure", desc := "()LCakesToTheWatched$Tossed;" } : Jvm.MethodName) prog_2_method_6_code (1 : Nat) (Option.some (Jvm.ClassFile.FieldType.object "CakesToTheWatched$Tossed"))) ∈ lw_all := lw_g (lw_at lw_m4 229 rfl) rfl
theorem q1449 : (Jvm.Cond.castable "CakesToTheWatched$Blind" "CakesToTheWatched$Guest") ∈ lw_tbl := lw_at lw_m6 211 rfl
theorem in_X12 : ∀ w ∈ wsX120, w ∈ lw_all := lw_in wsX120 [334] (by decide +kernel) (by decide +kernel)

/-! CakesToTheWatched$Expert -/
set_option maxRecDepth 100000
def RX13 : String := "CakesToTheWatched$Expert"
def TX13 : u_T := fun k => match k with
  | _ => ("CakesToTheWatched$Guest", "figure", "I", true)
def tyX13 : Nat → FieldType := fun k => match k with
  | _ => .int
abbrev wsX130 : List Cond := u_ws RX13 TX13 1
theorem nmX13 : ∀ a, a < 1 → ∀ b, b < 1 → a ≠ b → (TX13 a).2.1 ≠ (TX13 b).2.1 := by decide +kernel
theorem tyX13_ok : ∀ k, k < 1 → parseFieldDescriptor (TX13 k).2.2.1 = some (tyX13 k) := by decide +kernel
abbrev cX13_init : ByteArray := prog_9_method_1_code
def yX13_init : MethodName := ⟨RX13, "<init>", "(I)V"⟩
def dkwX13_init_0 : List UInt8 := [42, 27, 183, 0, 3, 177]
abbrev dktX13_init_0 : List UInt8 := dkwX13_init_0 ++ []
theorem dksX13_init_0 : cX13_init.data.toList.drop 0 = dktX13_init_0 := by decide +kernel
theorem dX13_init_0 : decode cX13_init 0 = .ok (.aload_n 0, 1) := dk_42 (dk_at dksX13_init_0 0 rfl rfl)
theorem dX13_init_1 : decode cX13_init 1 = .ok (.iload_n 1, 1) := dk_27 (dk_at dksX13_init_0 1 rfl rfl)
theorem dX13_init_2 : decode cX13_init 2 = .ok (.invokespecial 3, 3) := dk_183 0 3 (dk_at dksX13_init_0 2 rfl rfl)
theorem dX13_init_5 : decode cX13_init 5 = .ok (.return_, 1) := dk_177 (dk_at dksX13_init_0 5 rfl rfl)
abbrev cX13_bite : ByteArray := prog_9_method_3_code
def yX13_bite : MethodName := ⟨RX13, "bite", "()I"⟩
def dkwX13_bite_0 : List UInt8 := [42, 183, 0, 9, 4, 96, 172]
abbrev dktX13_bite_0 : List UInt8 := dkwX13_bite_0 ++ []
theorem dksX13_bite_0 : cX13_bite.data.toList.drop 0 = dktX13_bite_0 := by decide +kernel
theorem dX13_bite_0 : decode cX13_bite 0 = .ok (.aload_n 0, 1) := dk_42 (dk_at dksX13_bite_0 0 rfl rfl)
theorem dX13_bite_1 : decode cX13_bite 1 = .ok (.invokespecial 9, 3) := dk_183 0 9 (dk_at dksX13_bite_0 1 rfl rfl)
theorem dX13_bite_4 : decode cX13_bite 4 = .ok (.iconst 1, 1) := dk_4 (dk_at dksX13_bite_0 4 rfl rfl)
theorem dX13_bite_5 : decode cX13_bite 5 = .ok (.iadd, 1) := dk_96 (dk_at dksX13_bite_0 5 rfl rfl)
theorem dX13_bite_6 : decode cX13_bite 6 = .ok (.ireturn, 1) := dk_172 (dk_at dksX13_bite_0 6 rfl rfl)
abbrev cX13_gaze : ByteArray := prog_9_method_4_code
def yX13_gaze : MethodName := ⟨RX13, "gaze", "()I"⟩
def dkwX13_gaze_0 : List UInt8 := [5, 42, 183, 0, 13, 104, 172]
abbrev dktX13_gaze_0 : List UInt8 := dkwX13_gaze_0 ++ []
theorem dksX13_gaze_0 : cX13_gaze.data.toList.drop 0 = dktX13_gaze_0 := by decide +kernel
theorem dX13_gaze_0 : decode cX13_gaze 0 = .ok (.iconst 2, 1) := dk_5 (dk_at dksX13_gaze_0 0 rfl rfl)
theorem dX13_gaze_1 : decode cX13_gaze 1 = .ok (.aload_n 0, 1) := dk_42 (dk_at dksX13_gaze_0 1 rfl rfl)
theorem dX13_gaze_2 : decode cX13_gaze 2 = .ok (.invokespecial 13, 3) := dk_183 0 13 (dk_at dksX13_gaze_0 2 rfl rfl)
theorem dX13_gaze_5 : decode cX13_gaze 5 = .ok (.imul, 1) := dk_104 (dk_at dksX13_gaze_0 5 rfl rfl)
theorem dX13_gaze_6 : decode cX13_gaze 6 = .ok (.ireturn, 1) := dk_172 (dk_at dksX13_gaze_0 6 rfl rfl)
abbrev cX13_kind : ByteArray := prog_9_method_2_code
def yX13_kind : MethodName := ⟨RX13, "kind", "()I"⟩
theorem dX13_kind_0 : decode cX13_kind 0 = .ok (.iconst 5, 1) := by decide +kernel
theorem dX13_kind_1 : decode cX13_kind 1 = .ok (.ireturn, 1) := by decide +kernel
abbrev cX13_cost : ByteArray := prog_9_method_5_code
def yX13_cost : MethodName := ⟨RX13, "cost", "()I"⟩
def dkwX13_cost_0 : List UInt8 := [42, 183, 0, 16, 42, 180, 0, 19, 96, 172]
abbrev dktX13_cost_0 : List UInt8 := dkwX13_cost_0 ++ []
theorem dksX13_cost_0 : cX13_cost.data.toList.drop 0 = dktX13_cost_0 := by decide +kernel
theorem dX13_cost_0 : decode cX13_cost 0 = .ok (.aload_n 0, 1) := dk_42 (dk_at dksX13_cost_0 0 rfl rfl)
theorem dX13_cost_1 : decode cX13_cost 1 = .ok (.invokespecial 16, 3) := dk_183 0 16 (dk_at dksX13_cost_0 1 rfl rfl)
theorem dX13_cost_4 : decode cX13_cost 4 = .ok (.aload_n 0, 1) := dk_42 (dk_at dksX13_cost_0 4 rfl rfl)
theorem dX13_cost_5 : decode cX13_cost 5 = .ok (.getfield 19, 3) := dk_180 0 19 (dk_at dksX13_cost_0 5 rfl rfl)
theorem dX13_cost_8 : decode cX13_cost 8 = .ok (.iadd, 1) := dk_96 (dk_at dksX13_cost_0 8 rfl rfl)
theorem dX13_cost_9 : decode cX13_cost 9 = .ok (.ireturn, 1) := dk_172 (dk_at dksX13_cost_0 9 rfl rfl)
abbrev cX13_failure : ByteArray := prog_9_method_6_code
def yX13_failure : MethodName := ⟨RX13, "failure", "()LCakesToTheWatched$Tossed;"⟩
def dkwX13_failure_1 : List UInt8 := [183, 0, 32, 176]
abbrev dktX13_failure_1 : List UInt8 := dkwX13_failure_1 ++ []
def dkwX13_failure_0 : List UInt8 := [42, 183, 0, 25, 199, 0, 7, 1, 167, 0, 18, 187, 0, 29, 89, 17, 0, 200, 42, 182, 0, 31, 96]
abbrev dktX13_failure_0 : List UInt8 := dkwX13_failure_0 ++ dktX13_failure_1
theorem dksX13_failure_0 : cX13_failure.data.toList.drop 0 = dktX13_failure_0 := by decide +kernel
theorem dksX13_failure_1 : cX13_failure.data.toList.drop 23 = dktX13_failure_1 := dk_seg dksX13_failure_0 23 rfl rfl
theorem dX13_failure_0 : decode cX13_failure 0 = .ok (.aload_n 0, 1) := dk_42 (dk_at dksX13_failure_0 0 rfl rfl)
theorem dX13_failure_1 : decode cX13_failure 1 = .ok (.invokespecial 25, 3) := dk_183 0 25 (dk_at dksX13_failure_0 1 rfl rfl)
theorem dX13_failure_4 : decode cX13_failure 4 = .ok (.ifnonnull 7, 3) := dk_199 0 7 (dk_at dksX13_failure_0 4 rfl rfl)
theorem dX13_failure_7 : decode cX13_failure 7 = .ok (.aconst_null, 1) := dk_1 (dk_at dksX13_failure_0 7 rfl rfl)
theorem dX13_failure_8 : decode cX13_failure 8 = .ok (.goto 18, 3) := dk_167 0 18 (dk_at dksX13_failure_0 8 rfl rfl)
theorem dX13_failure_11 : decode cX13_failure 11 = .ok (.new 29, 3) := dk_187 0 29 (dk_at dksX13_failure_0 11 rfl rfl)
theorem dX13_failure_14 : decode cX13_failure 14 = .ok (.dup, 1) := dk_89 (dk_at dksX13_failure_0 14 rfl rfl)
theorem dX13_failure_15 : decode cX13_failure 15 = .ok (.sipush 200, 3) := dk_17 0 200 (dk_at dksX13_failure_0 15 rfl rfl)
theorem dX13_failure_18 : decode cX13_failure 18 = .ok (.aload_n 0, 1) := dk_42 (dk_at dksX13_failure_0 18 rfl rfl)
theorem dX13_failure_19 : decode cX13_failure 19 = .ok (.invokevirtual 31, 3) := dk_182 0 31 (dk_at dksX13_failure_0 19 rfl rfl)
theorem dX13_failure_22 : decode cX13_failure 22 = .ok (.iadd, 1) := dk_96 (dk_at dksX13_failure_0 22 rfl rfl)
theorem dX13_failure_23 : decode cX13_failure 23 = .ok (.invokespecial 32, 3) := dk_183 0 32 (dk_at dksX13_failure_1 0 rfl rfl)
theorem dX13_failure_26 : decode cX13_failure 26 = .ok (.areturn, 1) := dk_176 (dk_at dksX13_failure_1 3 rfl rfl)
theorem q57 : (Jvm.Cond.initialized "CakesToTheWatched$Expert") ∈ lw_all := lw_g (lw_at lw_m1 19 rfl) rfl
theorem q298 : (Jvm.Cond.fieldLink "CakesToTheWatched$Expert" (19 : Nat) "CakesToTheWatched$Expert" "figure" "I") ∈ lw_all := lw_g (lw_at lw_m2 20 rfl) rfl
theorem q299 : (Jvm.Cond.sameField "CakesToTheWatched$Expert" "CakesToTheWatched$Guest" "figure" "I") ∈ lw_all := lw_g (lw_at lw_m2 21 rfl) rfl
theorem q337 : (Jvm.Cond.instantiable "CakesToTheWatched$Expert" (1 : Nat)) ∈ lw_all := lw_g (lw_at lw_m2 59 rfl) rfl
theorem q339 : (Jvm.Cond.instanceMethod ({ cls := "CakesToTheWatched$Expert", name := "<init>", desc := "(I)V" } : Jvm.MethodName)) ∈ lw_all := lw_g (lw_at lw_m2 61 rfl) rfl
theorem q340 : (Jvm.Cond.code ({ cls := "CakesToTheWatched$Expert", name := "<init>", desc := "(I)V" } : Jvm.MethodName) prog_9_method_1_code (2 : Nat) (Option.none : Option Jvm.ClassFile.FieldType)) ∈ lw_all := lw_g (lw_at lw_m2 62 rfl) rfl
theorem q341 : (Jvm.Cond.methodLink "CakesToTheWatched$Expert" (3 : Nat) ({ cls := "CakesToTheWatched$Taster", name := "<init>", desc := "(I)V" } : Jvm.MethodName)) ∈ lw_all := lw_g (lw_at lw_m2 63 rfl) rfl
theorem q342 : (Jvm.Cond.laysFinal "CakesToTheWatched$Expert" "CakesToTheWatched$Guest" "figure" "I") ∈ lw_all := lw_g (lw_at lw_m2 64 rfl) rfl
theorem q343 : (Jvm.Cond.superclass "CakesToTheWatched$Expert" "CakesToTheWatched$Taster") ∈ lw_all := lw_g (lw_at lw_m2 65 rfl) rfl
theorem q391 : (Jvm.Cond.unhidden "CakesToTheWatched$Expert" "sees" "()Z") ∈ lw_tbl := lw_at lw_m2 113 rfl
theorem q427 : (Jvm.Cond.selects "CakesToTheWatched$Expert" ({ cls := "CakesToTheWatched$Eats", name := "bite", desc := "()I" } : Jvm.MethodName) ({ cls := "CakesToTheWatched$Expert", name := "bite", desc := "()I" } : Jvm.MethodName)) ∈ lw_all := lw_g (lw_at lw_m2 149 rfl) rfl
theorem q428 : (Jvm.Cond.instanceMethod ({ cls := "CakesToTheWatched$Expert", name := "bite", desc := "()I" } : Jvm.MethodName)) ∈ lw_all := lw_g (lw_at lw_m2 150 rfl) rfl
theorem q429 : (Jvm.Cond.code ({ cls := "CakesToTheWatched$Expert", name := "bite", desc := "()I" } : Jvm.MethodName) prog_9_method_3_code (1 : Nat) (Option.some Jvm.ClassFile.FieldType.int)) ∈ lw_all := lw_g (lw_at lw_m2 151 rfl) rfl
theorem q430 : (Jvm.Cond.methodLink "CakesToTheWatched$Expert" (9 : Nat) ({ cls := "CakesToTheWatched$Taster", name := "bite", desc := "()I" } : Jvm.MethodName)) ∈ lw_all := lw_g (lw_at lw_m2 152 rfl) rfl
theorem q452 : (Jvm.Cond.unhidden "CakesToTheWatched$Expert" "shy" "()I") ∈ lw_tbl := lw_at lw_m2 174 rfl
theorem q484 : (Jvm.Cond.selects "CakesToTheWatched$Expert" ({ cls := "CakesToTheWatched$Looks", name := "gaze", desc := "()I" } : Jvm.MethodName) ({ cls := "CakesToTheWatched$Expert", name := "gaze", desc := "()I" } : Jvm.MethodName)) ∈ lw_all := lw_g (lw_at lw_m2 206 rfl) rfl
theorem q485 : (Jvm.Cond.instanceMethod ({ cls := "CakesToTheWatched$Expert", name := "gaze", desc := "()I" } : Jvm.MethodName)) ∈ lw_all := lw_g (lw_at lw_m2 207 rfl) rfl
theorem q486 : (Jvm.Cond.code ({ cls := "CakesToTheWatched$Expert", name := "gaze", desc := "()I" } : Jvm.MethodName) prog_9_method_4_code (1 : Nat) (Option.some Jvm.ClassFile.FieldType.int)) ∈ lw_all := lw_g (lw_at lw_m2 208 rfl) rfl
theorem q487 : (Jvm.Cond.methodLink "CakesToTheWatched$Expert" (13 : Nat) ({ cls := "CakesToTheWatched$Taster", name := "gaze", desc := "()I" } : Jvm.MethodName)) ∈ lw_all := lw_g (lw_at lw_m2 209 rfl) rfl
theorem q519 : (Jvm.Cond.selects "CakesToTheWatched$Expert" ({ cls := "CakesToTheWatched$Guest", name := "kind", desc := "()I" } : Jvm.MethodName) ({ cls := "CakesToTheWatched$Expert", name := "kind", desc := "()I" } : Jvm.MethodName)) ∈ lw_all := lw_g (lw_at lw_m3 1 rfl) rfl
theorem q520 : (Jvm.Cond.instanceMethod ({ cls := "CakesToTheWatched$Expert", name := "kind", desc := "()I" } : Jvm.MethodName)) ∈ lw_all := lw_g (lw_at lw_m3 2 rfl) rfl
theorem q521 : (Jvm.Cond.code ({ cls := "CakesToTheWatched$Expert", name := "kind", desc := "()I" } : Jvm.MethodName) prog_9_method_2_code (1 : Nat) (Option.some Jvm.ClassFile.FieldType.int)) ∈ lw_all := lw_g (lw_at lw_m3 3 rfl) rfl
theorem q964 : (Jvm.Cond.selects "CakesToTheWatched$Expert" ({ cls := "CakesToTheWatched$Guest", name := "cost", desc := "()I" } : Jvm.MethodName) ({ cls := "CakesToTheWatched$Expert", name := "cost", desc := "()I" } : Jvm.MethodName)) ∈ lw_all := lw_g (lw_at lw_m4 206 rfl) rfl
theorem q965 : (Jvm.Cond.instanceMethod ({ cls := "CakesToTheWatched$Expert", name := "cost", desc := "()I" } : Jvm.MethodName)) ∈ lw_all := lw_g (lw_at lw_m4 207 rfl) rfl
theorem q966 : (Jvm.Cond.code ({ cls := "CakesToTheWatched$Expert", name := "cost", desc := "()I" } : Jvm.MethodName) prog_9_method_5_code (1 : Nat) (Option.some Jvm.ClassFile.FieldType.int)) ∈ lw_all := lw_g (lw_at lw_m4 208 rfl) rfl
theorem q967 : (Jvm.Cond.methodLink "CakesToTheWatched$Expert" (16 : Nat) ({ cls := "CakesToTheWatched$Taster", name := "cost", desc := "()I" } : Jvm.MethodName)) ∈ lw_all := lw_g (lw_at lw_m4 209 rfl) rfl
theorem q993 : (Jvm.Cond.selects "CakesToTheWatched$Expert" ({ cls := "CakesToTheWatched$Guest", name := "failure", desc := "()LCakesToTheWatched$Tossed;" } : Jvm.MethodName) ({ cls := "CakesToTheWatched$Expert", name := "failure", desc := "()LCakesToTheWatched$Tossed;" } : Jvm.MethodName)) ∈ lw_all := lw_g (lw_at lw_m4 235 rfl) rfl
theorem q994 : (Jvm.Cond.instanceMethod ({ cls := "CakesToTheWatched$Expert", name := "failure", desc := "()LCakesToTheWatched$Tossed;" } : Jvm.MethodName)) ∈ lw_all := lw_g (lw_at lw_m4 236 rfl) rfl
theorem q995 : (Jvm.Cond.code ({ cls := "CakesToTheWatched$Expert", name := "failure", desc := "()LCakesToTheWatched$Tossed;" } : Jvm.MethodName) prog_9_method_6_code (1 : Nat) (Option.some (Jvm.ClassFile.FieldType.object "CakesToTheWatched$Tossed"))) ∈ lw_all := lw_g (lw_at lw_m4 237 rfl) rfl
theorem q996 : (Jvm.Cond.methodLink "CakesToTheWatched$Expert" (25 : Nat) ({ cls := "CakesToTheWatched$Taster", name := "failure", desc := "()LCakesToTheWatched$Tossed;" } : Jvm.MethodName)) ∈ lw_all := lw_g (lw_at lw_m4 238 rfl) rfl
theorem q1023 : (Jvm.Cond.classLink "CakesToTheWatched$Expert" (29 : Nat) "CakesToTheWatched$Tossed") ∈ lw_all := lw_g (lw_at lw_m5 25 rfl) rfl
theorem q1024 : (Jvm.Cond.methodLink "CakesToTheWatched$Expert" (31 : Nat) ({ cls := "CakesToTheWatched$Expert", name := "cost", desc := "()I" } : Jvm.MethodName)) ∈ lw_all := lw_g (lw_at lw_m5 26 rfl) rfl
theorem q1025 : (Jvm.Cond.methodLink "CakesToTheWatched$Expert" (32 : Nat) ({ cls := "CakesToTheWatched$Tossed", name := "<init>", desc := "(I)V" } : Jvm.MethodName)) ∈ lw_all := lw_g (lw_at lw_m5 27 rfl) rfl
theorem q1444 : (Jvm.Cond.selects "CakesToTheWatched$Expert" ({ cls := "CakesToTheWatched$Expert", name := "cost", desc := "()I" } : Jvm.MethodName) ({ cls := "CakesToTheWatched$Expert", name := "cost", desc := "()I" } : Jvm.MethodName)) ∈ lw_all := lw_g (lw_at lw_m6 206 rfl) rfl
theorem q1453 : (Jvm.Cond.castable "CakesToTheWatched$Expert" "CakesToTheWatched$Guest") ∈ lw_tbl := lw_at lw_m6 215 rfl
theorem in_X13 : ∀ w ∈ wsX130, w ∈ lw_all := lw_in wsX130 [342] (by decide +kernel) (by decide +kernel)

/-! CakesToTheWatched$Twin -/
set_option maxRecDepth 100000
def RX14 : String := "CakesToTheWatched$Twin"
def TX14 : u_T := fun k => match k with
  | _ => ("CakesToTheWatched$Guest", "figure", "I", true)
def tyX14 : Nat → FieldType := fun k => match k with
  | _ => .int
abbrev wsX140 : List Cond := u_ws RX14 TX14 1
theorem nmX14 : ∀ a, a < 1 → ∀ b, b < 1 → a ≠ b → (TX14 a).2.1 ≠ (TX14 b).2.1 := by decide +kernel
theorem tyX14_ok : ∀ k, k < 1 → parseFieldDescriptor (TX14 k).2.2.1 = some (tyX14 k) := by decide +kernel
abbrev cX14_init : ByteArray := prog_19_method_1_code
def yX14_init : MethodName := ⟨RX14, "<init>", "(I)V"⟩
def dkwX14_init_0 : List UInt8 := [42, 27, 183, 0, 3, 177]
abbrev dktX14_init_0 : List UInt8 := dkwX14_init_0 ++ []
theorem dksX14_init_0 : cX14_init.data.toList.drop 0 = dktX14_init_0 := by decide +kernel
theorem dX14_init_0 : decode cX14_init 0 = .ok (.aload_n 0, 1) := dk_42 (dk_at dksX14_init_0 0 rfl rfl)
theorem dX14_init_1 : decode cX14_init 1 = .ok (.iload_n 1, 1) := dk_27 (dk_at dksX14_init_0 1 rfl rfl)
theorem dX14_init_2 : decode cX14_init 2 = .ok (.invokespecial 3, 3) := dk_183 0 3 (dk_at dksX14_init_0 2 rfl rfl)
theorem dX14_init_5 : decode cX14_init 5 = .ok (.return_, 1) := dk_177 (dk_at dksX14_init_0 5 rfl rfl)
abbrev cX14_bite : ByteArray := prog_19_method_3_code
def yX14_bite : MethodName := ⟨RX14, "bite", "()I"⟩
def dkwX14_bite_0 : List UInt8 := [42, 183, 0, 9, 5, 108, 172]
abbrev dktX14_bite_0 : List UInt8 := dkwX14_bite_0 ++ []
theorem dksX14_bite_0 : cX14_bite.data.toList.drop 0 = dktX14_bite_0 := by decide +kernel
theorem dX14_bite_0 : decode cX14_bite 0 = .ok (.aload_n 0, 1) := dk_42 (dk_at dksX14_bite_0 0 rfl rfl)
theorem dX14_bite_1 : decode cX14_bite 1 = .ok (.invokespecial 9, 3) := dk_183 0 9 (dk_at dksX14_bite_0 1 rfl rfl)
theorem dX14_bite_4 : decode cX14_bite 4 = .ok (.iconst 2, 1) := dk_5 (dk_at dksX14_bite_0 4 rfl rfl)
theorem dX14_bite_5 : decode cX14_bite 5 = .ok (.idiv, 1) := dk_108 (dk_at dksX14_bite_0 5 rfl rfl)
theorem dX14_bite_6 : decode cX14_bite 6 = .ok (.ireturn, 1) := dk_172 (dk_at dksX14_bite_0 6 rfl rfl)
abbrev cX14_shy : ByteArray := prog_19_method_4_code
def yX14_shy : MethodName := ⟨RX14, "shy", "()I"⟩
def dkwX14_shy_0 : List UInt8 := [42, 183, 0, 13, 4, 96, 172]
abbrev dktX14_shy_0 : List UInt8 := dkwX14_shy_0 ++ []
theorem dksX14_shy_0 : cX14_shy.data.toList.drop 0 = dktX14_shy_0 := by decide +kernel
theorem dX14_shy_0 : decode cX14_shy 0 = .ok (.aload_n 0, 1) := dk_42 (dk_at dksX14_shy_0 0 rfl rfl)
theorem dX14_shy_1 : decode cX14_shy 1 = .ok (.invokespecial 13, 3) := dk_183 0 13 (dk_at dksX14_shy_0 1 rfl rfl)
theorem dX14_shy_4 : decode cX14_shy 4 = .ok (.iconst 1, 1) := dk_4 (dk_at dksX14_shy_0 4 rfl rfl)
theorem dX14_shy_5 : decode cX14_shy 5 = .ok (.iadd, 1) := dk_96 (dk_at dksX14_shy_0 5 rfl rfl)
theorem dX14_shy_6 : decode cX14_shy 6 = .ok (.ireturn, 1) := dk_172 (dk_at dksX14_shy_0 6 rfl rfl)
abbrev cX14_kind : ByteArray := prog_19_method_2_code
def yX14_kind : MethodName := ⟨RX14, "kind", "()I"⟩
theorem dX14_kind_0 : decode cX14_kind 0 = .ok (.bipush 6, 2) := by decide +kernel
theorem dX14_kind_2 : decode cX14_kind 2 = .ok (.ireturn, 1) := by decide +kernel
abbrev cX14_cost : ByteArray := prog_19_method_5_code
def yX14_cost : MethodName := ⟨RX14, "cost", "()I"⟩
def dkwX14_cost_0 : List UInt8 := [5, 42, 183, 0, 16, 104, 172]
abbrev dktX14_cost_0 : List UInt8 := dkwX14_cost_0 ++ []
theorem dksX14_cost_0 : cX14_cost.data.toList.drop 0 = dktX14_cost_0 := by decide +kernel
theorem dX14_cost_0 : decode cX14_cost 0 = .ok (.iconst 2, 1) := dk_5 (dk_at dksX14_cost_0 0 rfl rfl)
theorem dX14_cost_1 : decode cX14_cost 1 = .ok (.aload_n 0, 1) := dk_42 (dk_at dksX14_cost_0 1 rfl rfl)
theorem dX14_cost_2 : decode cX14_cost 2 = .ok (.invokespecial 16, 3) := dk_183 0 16 (dk_at dksX14_cost_0 2 rfl rfl)
theorem dX14_cost_5 : decode cX14_cost 5 = .ok (.imul, 1) := dk_104 (dk_at dksX14_cost_0 5 rfl rfl)
theorem dX14_cost_6 : decode cX14_cost 6 = .ok (.ireturn, 1) := dk_172 (dk_at dksX14_cost_0 6 rfl rfl)
theorem q58 : (Jvm.Cond.initialized "CakesToTheWatched$Twin") ∈ lw_all := lw_g (lw_at lw_m1 20 rfl) rfl
theorem q345 : (Jvm.Cond.instantiable "CakesToTheWatched$Twin" (1 : Nat)) ∈ lw_all := lw_g (lw_at lw_m2 67 rfl) rfl
theorem q347 : (Jvm.Cond.instanceMethod ({ cls := "CakesToTheWatched$Twin", name := "<init>", desc := "(I)V" } : Jvm.MethodName)) ∈ lw_all := lw_g (lw_at lw_m2 69 rfl) rfl
theorem q348 : (Jvm.Cond.code ({ cls := "CakesToTheWatched$Twin", name := "<init>", desc := "(I)V" } : Jvm.MethodName) prog_19_method_1_code (2 : Nat) (Option.none : Option Jvm.ClassFile.FieldType)) ∈ lw_all := lw_g (lw_at lw_m2 70 rfl) rfl
theorem q349 : (Jvm.Cond.methodLink "CakesToTheWatched$Twin" (3 : Nat) ({ cls := "CakesToTheWatched$Child", name := "<init>", desc := "(I)V" } : Jvm.MethodName)) ∈ lw_all := lw_g (lw_at lw_m2 71 rfl) rfl
theorem q350 : (Jvm.Cond.laysFinal "CakesToTheWatched$Twin" "CakesToTheWatched$Guest" "figure" "I") ∈ lw_all := lw_g (lw_at lw_m2 72 rfl) rfl
theorem q351 : (Jvm.Cond.superclass "CakesToTheWatched$Twin" "CakesToTheWatched$Child") ∈ lw_all := lw_g (lw_at lw_m2 73 rfl) rfl
theorem q394 : (Jvm.Cond.unhidden "CakesToTheWatched$Twin" "sees" "()Z") ∈ lw_tbl := lw_at lw_m2 116 rfl
theorem q435 : (Jvm.Cond.selects "CakesToTheWatched$Twin" ({ cls := "CakesToTheWatched$Eats", name := "bite", desc := "()I" } : Jvm.MethodName) ({ cls := "CakesToTheWatched$Twin", name := "bite", desc := "()I" } : Jvm.MethodName)) ∈ lw_all := lw_g (lw_at lw_m2 157 rfl) rfl
theorem q436 : (Jvm.Cond.instanceMethod ({ cls := "CakesToTheWatched$Twin", name := "bite", desc := "()I" } : Jvm.MethodName)) ∈ lw_all := lw_g (lw_at lw_m2 158 rfl) rfl
theorem q437 : (Jvm.Cond.code ({ cls := "CakesToTheWatched$Twin", name := "bite", desc := "()I" } : Jvm.MethodName) prog_19_method_3_code (1 : Nat) (Option.some Jvm.ClassFile.FieldType.int)) ∈ lw_all := lw_g (lw_at lw_m2 159 rfl) rfl
theorem q438 : (Jvm.Cond.methodLink "CakesToTheWatched$Twin" (9 : Nat) ({ cls := "CakesToTheWatched$Child", name := "bite", desc := "()I" } : Jvm.MethodName)) ∈ lw_all := lw_g (lw_at lw_m2 160 rfl) rfl
theorem q455 : (Jvm.Cond.selects "CakesToTheWatched$Twin" ({ cls := "CakesToTheWatched$Blushes", name := "shy", desc := "()I" } : Jvm.MethodName) ({ cls := "CakesToTheWatched$Twin", name := "shy", desc := "()I" } : Jvm.MethodName)) ∈ lw_all := lw_g (lw_at lw_m2 177 rfl) rfl
theorem q456 : (Jvm.Cond.instanceMethod ({ cls := "CakesToTheWatched$Twin", name := "shy", desc := "()I" } : Jvm.MethodName)) ∈ lw_all := lw_g (lw_at lw_m2 178 rfl) rfl
theorem q457 : (Jvm.Cond.code ({ cls := "CakesToTheWatched$Twin", name := "shy", desc := "()I" } : Jvm.MethodName) prog_19_method_4_code (1 : Nat) (Option.some Jvm.ClassFile.FieldType.int)) ∈ lw_all := lw_g (lw_at lw_m2 179 rfl) rfl
theorem q458 : (Jvm.Cond.methodLink "CakesToTheWatched$Twin" (13 : Nat) ({ cls := "CakesToTheWatched$Child", name := "shy", desc := "()I" } : Jvm.MethodName)) ∈ lw_all := lw_g (lw_at lw_m2 180 rfl) rfl
theorem q492 : (Jvm.Cond.selects "CakesToTheWatched$Twin" ({ cls := "CakesToTheWatched$Looks", name := "gaze", desc := "()I" } : Jvm.MethodName) ({ cls := "CakesToTheWatched$Child", name := "gaze", desc := "()I" } : Jvm.MethodName)) ∈ lw_all := lw_g (lw_at lw_m2 214 rfl) rfl
theorem q525 : (Jvm.Cond.selects "CakesToTheWatched$Twin" ({ cls := "CakesToTheWatched$Guest", name := "kind", desc := "()I" } : Jvm.MethodName) ({ cls := "CakesToTheWatched$Twin", name := "kind", desc := "()I" } : Jvm.MethodName)) ∈ lw_all := lw_g (lw_at lw_m3 7 rfl) rfl
theorem q526 : (Jvm.Cond.instanceMethod ({ cls := "CakesToTheWatched$Twin", name := "kind", desc := "()I" } : Jvm.MethodName)) ∈ lw_all := lw_g (lw_at lw_m3 8 rfl) rfl
theorem q527 : (Jvm.Cond.code ({ cls := "CakesToTheWatched$Twin", name := "kind", desc := "()I" } : Jvm.MethodName) prog_19_method_2_code (1 : Nat) (Option.some Jvm.ClassFile.FieldType.int)) ∈ lw_all := lw_g (lw_at lw_m3 9 rfl) rfl
theorem q972 : (Jvm.Cond.selects "CakesToTheWatched$Twin" ({ cls := "CakesToTheWatched$Guest", name := "cost", desc := "()I" } : Jvm.MethodName) ({ cls := "CakesToTheWatched$Twin", name := "cost", desc := "()I" } : Jvm.MethodName)) ∈ lw_all := lw_g (lw_at lw_m4 214 rfl) rfl
theorem q973 : (Jvm.Cond.instanceMethod ({ cls := "CakesToTheWatched$Twin", name := "cost", desc := "()I" } : Jvm.MethodName)) ∈ lw_all := lw_g (lw_at lw_m4 215 rfl) rfl
theorem q974 : (Jvm.Cond.code ({ cls := "CakesToTheWatched$Twin", name := "cost", desc := "()I" } : Jvm.MethodName) prog_19_method_5_code (1 : Nat) (Option.some Jvm.ClassFile.FieldType.int)) ∈ lw_all := lw_g (lw_at lw_m4 216 rfl) rfl
theorem q975 : (Jvm.Cond.methodLink "CakesToTheWatched$Twin" (16 : Nat) ({ cls := "CakesToTheWatched$Child", name := "cost", desc := "()I" } : Jvm.MethodName)) ∈ lw_all := lw_g (lw_at lw_m4 217 rfl) rfl
theorem q1027 : (Jvm.Cond.selects "CakesToTheWatched$Twin" ({ cls := "CakesToTheWatched$Guest", name := "failure", desc := "()LCakesToTheWatched$Tossed;" } : Jvm.MethodName) ({ cls := "CakesToTheWatched$Guest", name := "failure", desc := "()LCakesToTheWatched$Tossed;" } : Jvm.MethodName)) ∈ lw_all := lw_g (lw_at lw_m5 29 rfl) rfl
theorem q1455 : (Jvm.Cond.castable "CakesToTheWatched$Twin" "CakesToTheWatched$Guest") ∈ lw_tbl := lw_at lw_m6 217 rfl
theorem in_X14 : ∀ w ∈ wsX140, w ∈ lw_all := lw_in wsX140 [350] (by decide +kernel) (by decide +kernel)

/-! CakesToTheWatched$Cow -/
set_option maxRecDepth 100000
def RX15 : String := "CakesToTheWatched$Cow"
def TX15 : u_T := fun k => match k with
  | _ => ("CakesToTheWatched$Guest", "figure", "I", true)
def tyX15 : Nat → FieldType := fun k => match k with
  | _ => .int
abbrev wsX150 : List Cond := u_ws RX15 TX15 1
theorem nmX15 : ∀ a, a < 1 → ∀ b, b < 1 → a ≠ b → (TX15 a).2.1 ≠ (TX15 b).2.1 := by decide +kernel
theorem tyX15_ok : ∀ k, k < 1 → parseFieldDescriptor (TX15 k).2.2.1 = some (tyX15 k) := by decide +kernel
abbrev cX15_init : ByteArray := prog_6_method_1_code
def yX15_init : MethodName := ⟨RX15, "<init>", "(I)V"⟩
def dkwX15_init_0 : List UInt8 := [42, 27, 183, 0, 1, 177]
abbrev dktX15_init_0 : List UInt8 := dkwX15_init_0 ++ []
theorem dksX15_init_0 : cX15_init.data.toList.drop 0 = dktX15_init_0 := by decide +kernel
theorem dX15_init_0 : decode cX15_init 0 = .ok (.aload_n 0, 1) := dk_42 (dk_at dksX15_init_0 0 rfl rfl)
theorem dX15_init_1 : decode cX15_init 1 = .ok (.iload_n 1, 1) := dk_27 (dk_at dksX15_init_0 1 rfl rfl)
theorem dX15_init_2 : decode cX15_init 2 = .ok (.invokespecial 1, 3) := dk_183 0 1 (dk_at dksX15_init_0 2 rfl rfl)
theorem dX15_init_5 : decode cX15_init 5 = .ok (.return_, 1) := dk_177 (dk_at dksX15_init_0 5 rfl rfl)
abbrev cX15_bite : ByteArray := prog_6_method_3_code
def yX15_bite : MethodName := ⟨RX15, "bite", "()I"⟩
theorem dX15_bite_0 : decode cX15_bite 0 = .ok (.bipush 9, 2) := by decide +kernel
theorem dX15_bite_2 : decode cX15_bite 2 = .ok (.ireturn, 1) := by decide +kernel
abbrev cX15_gaze : ByteArray := prog_6_method_4_code
def yX15_gaze : MethodName := ⟨RX15, "gaze", "()I"⟩
theorem dX15_gaze_0 : decode cX15_gaze 0 = .ok (.iconst 0, 1) := by decide +kernel
theorem dX15_gaze_1 : decode cX15_gaze 1 = .ok (.ireturn, 1) := by decide +kernel
abbrev cX15_kind : ByteArray := prog_6_method_2_code
def yX15_kind : MethodName := ⟨RX15, "kind", "()I"⟩
theorem dX15_kind_0 : decode cX15_kind 0 = .ok (.bipush 7, 2) := by decide +kernel
theorem dX15_kind_2 : decode cX15_kind 2 = .ok (.ireturn, 1) := by decide +kernel
abbrev cX15_cost : ByteArray := prog_6_method_5_code
def yX15_cost : MethodName := ⟨RX15, "cost", "()I"⟩
theorem dX15_cost_0 : decode cX15_cost 0 = .ok (.iconst 1, 1) := by decide +kernel
theorem dX15_cost_1 : decode cX15_cost 1 = .ok (.ireturn, 1) := by decide +kernel
abbrev cX15_failure : ByteArray := prog_6_method_6_code
def yX15_failure : MethodName := ⟨RX15, "failure", "()LCakesToTheWatched$Tossed;"⟩
theorem dX15_failure_0 : decode cX15_failure 0 = .ok (.aconst_null, 1) := by decide +kernel
theorem dX15_failure_1 : decode cX15_failure 1 = .ok (.areturn, 1) := by decide +kernel
theorem q59 : (Jvm.Cond.initialized "CakesToTheWatched$Cow") ∈ lw_all := lw_g (lw_at lw_m1 21 rfl) rfl
theorem q353 : (Jvm.Cond.instantiable "CakesToTheWatched$Cow" (1 : Nat)) ∈ lw_all := lw_g (lw_at lw_m2 75 rfl) rfl
theorem q355 : (Jvm.Cond.instanceMethod ({ cls := "CakesToTheWatched$Cow", name := "<init>", desc := "(I)V" } : Jvm.MethodName)) ∈ lw_all := lw_g (lw_at lw_m2 77 rfl) rfl
theorem q356 : (Jvm.Cond.code ({ cls := "CakesToTheWatched$Cow", name := "<init>", desc := "(I)V" } : Jvm.MethodName) prog_6_method_1_code (2 : Nat) (Option.none : Option Jvm.ClassFile.FieldType)) ∈ lw_all := lw_g (lw_at lw_m2 78 rfl) rfl
theorem q357 : (Jvm.Cond.methodLink "CakesToTheWatched$Cow" (1 : Nat) ({ cls := "CakesToTheWatched$Guest", name := "<init>", desc := "(I)V" } : Jvm.MethodName)) ∈ lw_all := lw_g (lw_at lw_m2 79 rfl) rfl
theorem q358 : (Jvm.Cond.laysFinal "CakesToTheWatched$Cow" "CakesToTheWatched$Guest" "figure" "I") ∈ lw_all := lw_g (lw_at lw_m2 80 rfl) rfl
theorem q359 : (Jvm.Cond.superclass "CakesToTheWatched$Cow" "CakesToTheWatched$Guest") ∈ lw_all := lw_g (lw_at lw_m2 81 rfl) rfl
theorem q389 : (Jvm.Cond.unhidden "CakesToTheWatched$Cow" "sees" "()Z") ∈ lw_tbl := lw_at lw_m2 111 rfl
theorem q421 : (Jvm.Cond.selects "CakesToTheWatched$Cow" ({ cls := "CakesToTheWatched$Eats", name := "bite", desc := "()I" } : Jvm.MethodName) ({ cls := "CakesToTheWatched$Cow", name := "bite", desc := "()I" } : Jvm.MethodName)) ∈ lw_all := lw_g (lw_at lw_m2 143 rfl) rfl
theorem q422 : (Jvm.Cond.instanceMethod ({ cls := "CakesToTheWatched$Cow", name := "bite", desc := "()I" } : Jvm.MethodName)) ∈ lw_all := lw_g (lw_at lw_m2 144 rfl) rfl
theorem q423 : (Jvm.Cond.code ({ cls := "CakesToTheWatched$Cow", name := "bite", desc := "()I" } : Jvm.MethodName) prog_6_method_3_code (1 : Nat) (Option.some Jvm.ClassFile.FieldType.int)) ∈ lw_all := lw_g (lw_at lw_m2 145 rfl) rfl
theorem q448 : (Jvm.Cond.unhidden "CakesToTheWatched$Cow" "shy" "()I") ∈ lw_tbl := lw_at lw_m2 170 rfl
theorem q478 : (Jvm.Cond.selects "CakesToTheWatched$Cow" ({ cls := "CakesToTheWatched$Looks", name := "gaze", desc := "()I" } : Jvm.MethodName) ({ cls := "CakesToTheWatched$Cow", name := "gaze", desc := "()I" } : Jvm.MethodName)) ∈ lw_all := lw_g (lw_at lw_m2 200 rfl) rfl
theorem q479 : (Jvm.Cond.instanceMethod ({ cls := "CakesToTheWatched$Cow", name := "gaze", desc := "()I" } : Jvm.MethodName)) ∈ lw_all := lw_g (lw_at lw_m2 201 rfl) rfl
theorem q480 : (Jvm.Cond.code ({ cls := "CakesToTheWatched$Cow", name := "gaze", desc := "()I" } : Jvm.MethodName) prog_6_method_4_code (1 : Nat) (Option.some Jvm.ClassFile.FieldType.int)) ∈ lw_all := lw_g (lw_at lw_m2 202 rfl) rfl
theorem q513 : (Jvm.Cond.selects "CakesToTheWatched$Cow" ({ cls := "CakesToTheWatched$Guest", name := "kind", desc := "()I" } : Jvm.MethodName) ({ cls := "CakesToTheWatched$Cow", name := "kind", desc := "()I" } : Jvm.MethodName)) ∈ lw_all := lw_g (lw_at lw_m2 235 rfl) rfl
theorem q514 : (Jvm.Cond.instanceMethod ({ cls := "CakesToTheWatched$Cow", name := "kind", desc := "()I" } : Jvm.MethodName)) ∈ lw_all := lw_g (lw_at lw_m2 236 rfl) rfl
theorem q515 : (Jvm.Cond.code ({ cls := "CakesToTheWatched$Cow", name := "kind", desc := "()I" } : Jvm.MethodName) prog_6_method_2_code (1 : Nat) (Option.some Jvm.ClassFile.FieldType.int)) ∈ lw_all := lw_g (lw_at lw_m2 237 rfl) rfl
theorem q957 : (Jvm.Cond.selects "CakesToTheWatched$Cow" ({ cls := "CakesToTheWatched$Guest", name := "cost", desc := "()I" } : Jvm.MethodName) ({ cls := "CakesToTheWatched$Cow", name := "cost", desc := "()I" } : Jvm.MethodName)) ∈ lw_all := lw_g (lw_at lw_m4 199 rfl) rfl
theorem q958 : (Jvm.Cond.instanceMethod ({ cls := "CakesToTheWatched$Cow", name := "cost", desc := "()I" } : Jvm.MethodName)) ∈ lw_all := lw_g (lw_at lw_m4 200 rfl) rfl
theorem q959 : (Jvm.Cond.code ({ cls := "CakesToTheWatched$Cow", name := "cost", desc := "()I" } : Jvm.MethodName) prog_6_method_5_code (1 : Nat) (Option.some Jvm.ClassFile.FieldType.int)) ∈ lw_all := lw_g (lw_at lw_m4 201 rfl) rfl
theorem q989 : (Jvm.Cond.selects "CakesToTheWatched$Cow" ({ cls := "CakesToTheWatched$Guest", name := "failure", desc := "()LCakesToTheWatched$Tossed;" } : Jvm.MethodName) ({ cls := "CakesToTheWatched$Cow", name := "failure", desc := "()LCakesToTheWatched$Tossed;" } : Jvm.MethodName)) ∈ lw_all := lw_g (lw_at lw_m4 231 rfl) rfl
theorem q990 : (Jvm.Cond.instanceMethod ({ cls := "CakesToTheWatched$Cow", name := "failure", desc := "()LCakesToTheWatched$Tossed;" } : Jvm.MethodName)) ∈ lw_all := lw_g (lw_at lw_m4 232 rfl) rfl
theorem q991 : (Jvm.Cond.code ({ cls := "CakesToTheWatched$Cow", name := "failure", desc := "()LCakesToTheWatched$Tossed;" } : Jvm.MethodName) prog_6_method_6_code (1 : Nat) (Option.some (Jvm.ClassFile.FieldType.object "CakesToTheWatched$Tossed"))) ∈ lw_all := lw_g (lw_at lw_m4 233 rfl) rfl
theorem q1451 : (Jvm.Cond.castable "CakesToTheWatched$Cow" "CakesToTheWatched$Guest") ∈ lw_tbl := lw_at lw_m6 213 rfl
theorem in_X15 : ∀ w ∈ wsX150, w ∈ lw_all := lw_in wsX150 [358] (by decide +kernel) (by decide +kernel)

/-! CakesToTheWatched$Tossed -/
set_option maxRecDepth 100000
def RX16 : String := "CakesToTheWatched$Tossed"
def TX16 : u_T := fun k => match k with
  | 0 => ("java/lang/Throwable", "cause", "Ljava/lang/Throwable;", false)
  | 1 => ("java/lang/Throwable", "stackTrace", "[Ljava/lang/StackTraceElement;", false)
  | 2 => ("java/lang/Throwable", "suppressedExceptions", "Ljava/util/List;", false)
  | 3 => ("java/lang/Throwable", "detailMessage", "Ljava/lang/String;", false)
  | 4 => ("java/lang/Throwable", "backtrace", "Ljava/lang/Object;", false)
  | 5 => ("java/lang/Throwable", "depth", "I", false)
  | _ => ("CakesToTheWatched$Tossed", "n", "I", true)
def tyX16 : Nat → FieldType := fun k => match k with
  | 0 => .object "java/lang/Throwable"
  | 1 => .array (.object "java/lang/StackTraceElement")
  | 2 => .object "java/util/List"
  | 3 => .object "java/lang/String"
  | 4 => .object "java/lang/Object"
  | 5 => .int
  | _ => .int
abbrev wsX160 : List Cond := u_ws RX16 TX16 7
theorem nmX16 : ∀ a, a < 7 → ∀ b, b < 7 → a ≠ b → (TX16 a).2.1 ≠ (TX16 b).2.1 := by decide +kernel
theorem tyX16_ok : ∀ k, k < 7 → parseFieldDescriptor (TX16 k).2.2.1 = some (tyX16 k) := by decide +kernel
abbrev cX16_init : ByteArray := prog_18_method_1_code
def yX16_init : MethodName := ⟨RX16, "<init>", "(I)V"⟩
def dkwX16_init_0 : List UInt8 := [42, 183, 0, 1, 42, 27, 181, 0, 7, 177]
abbrev dktX16_init_0 : List UInt8 := dkwX16_init_0 ++ []
theorem dksX16_init_0 : cX16_init.data.toList.drop 0 = dktX16_init_0 := by decide +kernel
theorem dX16_init_0 : decode cX16_init 0 = .ok (.aload_n 0, 1) := dk_42 (dk_at dksX16_init_0 0 rfl rfl)
theorem dX16_init_1 : decode cX16_init 1 = .ok (.invokespecial 1, 3) := dk_183 0 1 (dk_at dksX16_init_0 1 rfl rfl)
theorem dX16_init_4 : decode cX16_init 4 = .ok (.aload_n 0, 1) := dk_42 (dk_at dksX16_init_0 4 rfl rfl)
theorem dX16_init_5 : decode cX16_init 5 = .ok (.iload_n 1, 1) := dk_27 (dk_at dksX16_init_0 5 rfl rfl)
theorem dX16_init_6 : decode cX16_init 6 = .ok (.putfield 7, 3) := dk_181 0 7 (dk_at dksX16_init_0 6 rfl rfl)
theorem dX16_init_9 : decode cX16_init 9 = .ok (.return_, 1) := dk_177 (dk_at dksX16_init_0 9 rfl rfl)
theorem q69 : (Jvm.Cond.initialized "CakesToTheWatched$Tossed") ∈ lw_all := lw_g (lw_at lw_m1 31 rfl) rfl
theorem q98 : (Jvm.Cond.selects "CakesToTheWatched$Tossed" ({ cls := "java/lang/Throwable", name := "fillInStackTrace", desc := "()Ljava/lang/Throwable;" } : Jvm.MethodName) ({ cls := "java/lang/Throwable", name := "fillInStackTrace", desc := "()Ljava/lang/Throwable;" } : Jvm.MethodName)) ∈ lw_all := lw_g (lw_at lw_m1 60 rfl) rfl
theorem q1002 : (Jvm.Cond.instantiable "CakesToTheWatched$Tossed" (7 : Nat)) ∈ lw_all := lw_g (lw_at lw_m5 4 rfl) rfl
theorem q1003 : (Jvm.Cond.castable "CakesToTheWatched$Tossed" "CakesToTheWatched$Tossed") ∈ lw_tbl := lw_at lw_m5 5 rfl
theorem q1004 : (Jvm.Cond.selects "CakesToTheWatched$Tossed" ({ cls := "java/lang/Throwable", name := "fillInStackTrace", desc := "(I)Ljava/lang/Throwable;" } : Jvm.MethodName) ({ cls := "java/lang/Throwable", name := "fillInStackTrace", desc := "(I)Ljava/lang/Throwable;" } : Jvm.MethodName)) ∈ lw_all := lw_g (lw_at lw_m5 6 rfl) rfl
theorem q1005 : (Jvm.Cond.lays "CakesToTheWatched$Tossed" "java/lang/Throwable" "cause" "Ljava/lang/Throwable;") ∈ lw_all := lw_g (lw_at lw_m5 7 rfl) rfl
theorem q1006 : (Jvm.Cond.lays "CakesToTheWatched$Tossed" "java/lang/Throwable" "stackTrace" "[Ljava/lang/StackTraceElement;") ∈ lw_all := lw_g (lw_at lw_m5 8 rfl) rfl
theorem q1007 : (Jvm.Cond.lays "CakesToTheWatched$Tossed" "java/lang/Throwable" "suppressedExceptions" "Ljava/util/List;") ∈ lw_all := lw_g (lw_at lw_m5 9 rfl) rfl
theorem q1008 : (Jvm.Cond.lays "CakesToTheWatched$Tossed" "java/lang/Throwable" "detailMessage" "Ljava/lang/String;") ∈ lw_all := lw_g (lw_at lw_m5 10 rfl) rfl
theorem q1009 : (Jvm.Cond.lays "CakesToTheWatched$Tossed" "java/lang/Throwable" "backtrace" "Ljava/lang/Object;") ∈ lw_all := lw_g (lw_at lw_m5 11 rfl) rfl
theorem q1011 : (Jvm.Cond.instanceMethod ({ cls := "CakesToTheWatched$Tossed", name := "<init>", desc := "(I)V" } : Jvm.MethodName)) ∈ lw_all := lw_g (lw_at lw_m5 13 rfl) rfl
theorem q1012 : (Jvm.Cond.code ({ cls := "CakesToTheWatched$Tossed", name := "<init>", desc := "(I)V" } : Jvm.MethodName) prog_18_method_1_code (2 : Nat) (Option.none : Option Jvm.ClassFile.FieldType)) ∈ lw_all := lw_g (lw_at lw_m5 14 rfl) rfl
theorem q1013 : (Jvm.Cond.methodLink "CakesToTheWatched$Tossed" (1 : Nat) ({ cls := "java/lang/RuntimeException", name := "<init>", desc := "()V" } : Jvm.MethodName)) ∈ lw_all := lw_g (lw_at lw_m5 15 rfl) rfl
theorem q1014 : (Jvm.Cond.fieldLink "CakesToTheWatched$Tossed" (7 : Nat) "CakesToTheWatched$Tossed" "n" "I") ∈ lw_all := lw_g (lw_at lw_m5 16 rfl) rfl
theorem q1017 : (Jvm.Cond.laysFinal "CakesToTheWatched$Tossed" "CakesToTheWatched$Tossed" "n" "I") ∈ lw_all := lw_g (lw_at lw_m5 19 rfl) rfl
theorem q1018 : (Jvm.Cond.soleField "CakesToTheWatched$Tossed" "n") ∈ lw_all := lw_g (lw_at lw_m5 20 rfl) rfl
theorem q1019 : (Jvm.Cond.lays "CakesToTheWatched$Tossed" "java/lang/Throwable" "depth" "I") ∈ lw_all := lw_g (lw_at lw_m5 21 rfl) rfl
theorem q1020 : (Jvm.Cond.superclass "CakesToTheWatched$Tossed" "java/lang/RuntimeException") ∈ lw_all := lw_g (lw_at lw_m5 22 rfl) rfl
theorem in_X16 : ∀ w ∈ wsX160, w ∈ lw_all := lw_in wsX160 [1005, 1006, 1007, 1008, 1009, 1019, 1017] (by decide +kernel) (by decide +kernel)

/-! CakesToTheWatched$Looks -/
set_option maxRecDepth 100000
def RX17 : String := "CakesToTheWatched$Looks"
abbrev cX17_sees : ByteArray := prog_14_method_2_code
def yX17_sees : MethodName := ⟨RX17, "sees", "()Z"⟩
theorem dX17_sees_0 : decode cX17_sees 0 = .ok (.iconst 1, 1) := by decide +kernel
theorem dX17_sees_1 : decode cX17_sees 1 = .ok (.ireturn, 1) := by decide +kernel
abbrev cX17_gaze : ByteArray := prog_14_method_1_code
def yX17_gaze : MethodName := ⟨RX17, "gaze", "()I"⟩
theorem dX17_gaze_0 : decode cX17_gaze 0 = .ok (.iconst 2, 1) := by decide +kernel
theorem dX17_gaze_1 : decode cX17_gaze 1 = .ok (.ireturn, 1) := by decide +kernel
theorem q384 : (Jvm.Cond.declares ({ cls := "CakesToTheWatched$Looks", name := "sees", desc := "()Z" } : Jvm.MethodName)) ∈ lw_tbl := lw_at lw_m2 106 rfl
theorem q395 : (Jvm.Cond.instanceMethod ({ cls := "CakesToTheWatched$Looks", name := "sees", desc := "()Z" } : Jvm.MethodName)) ∈ lw_all := lw_g (lw_at lw_m2 117 rfl) rfl
theorem q396 : (Jvm.Cond.publicMethod ({ cls := "CakesToTheWatched$Looks", name := "sees", desc := "()Z" } : Jvm.MethodName)) ∈ lw_tbl := lw_at lw_m2 118 rfl
theorem q397 : (Jvm.Cond.code ({ cls := "CakesToTheWatched$Looks", name := "sees", desc := "()Z" } : Jvm.MethodName) prog_14_method_2_code (1 : Nat) (Option.some Jvm.ClassFile.FieldType.boolean)) ∈ lw_all := lw_g (lw_at lw_m2 119 rfl) rfl
theorem q469 : (Jvm.Cond.declares ({ cls := "CakesToTheWatched$Looks", name := "gaze", desc := "()I" } : Jvm.MethodName)) ∈ lw_tbl := lw_at lw_m2 191 rfl
theorem q476 : (Jvm.Cond.instanceMethod ({ cls := "CakesToTheWatched$Looks", name := "gaze", desc := "()I" } : Jvm.MethodName)) ∈ lw_all := lw_g (lw_at lw_m2 198 rfl) rfl
theorem q477 : (Jvm.Cond.code ({ cls := "CakesToTheWatched$Looks", name := "gaze", desc := "()I" } : Jvm.MethodName) prog_14_method_1_code (1 : Nat) (Option.some Jvm.ClassFile.FieldType.int)) ∈ lw_all := lw_g (lw_at lw_m2 199 rfl) rfl
theorem q493 : (Jvm.Cond.publicMethod ({ cls := "CakesToTheWatched$Looks", name := "gaze", desc := "()I" } : Jvm.MethodName)) ∈ lw_tbl := lw_at lw_m2 215 rfl
theorem q1445 : (Jvm.Cond.initialized "CakesToTheWatched$Looks") ∈ lw_all := lw_g (lw_at lw_m6 207 rfl) rfl

/-! CakesToTheWatched$Eats -/
set_option maxRecDepth 100000
def RX18 : String := "CakesToTheWatched$Eats"
abbrev cX18_bite : ByteArray := prog_8_method_1_code
def yX18_bite : MethodName := ⟨RX18, "bite", "()I"⟩
theorem dX18_bite_0 : decode cX18_bite 0 = .ok (.iconst 3, 1) := by decide +kernel
theorem dX18_bite_1 : decode cX18_bite 1 = .ok (.ireturn, 1) := by decide +kernel
theorem q414 : (Jvm.Cond.declares ({ cls := "CakesToTheWatched$Eats", name := "bite", desc := "()I" } : Jvm.MethodName)) ∈ lw_tbl := lw_at lw_m2 136 rfl
theorem q419 : (Jvm.Cond.instanceMethod ({ cls := "CakesToTheWatched$Eats", name := "bite", desc := "()I" } : Jvm.MethodName)) ∈ lw_all := lw_g (lw_at lw_m2 141 rfl) rfl
theorem q420 : (Jvm.Cond.code ({ cls := "CakesToTheWatched$Eats", name := "bite", desc := "()I" } : Jvm.MethodName) prog_8_method_1_code (1 : Nat) (Option.some Jvm.ClassFile.FieldType.int)) ∈ lw_all := lw_g (lw_at lw_m2 142 rfl) rfl
theorem q439 : (Jvm.Cond.publicMethod ({ cls := "CakesToTheWatched$Eats", name := "bite", desc := "()I" } : Jvm.MethodName)) ∈ lw_tbl := lw_at lw_m2 161 rfl
theorem q1446 : (Jvm.Cond.initialized "CakesToTheWatched$Eats") ∈ lw_all := lw_g (lw_at lw_m6 208 rfl) rfl

/-! CakesToTheWatched$Blushes -/
set_option maxRecDepth 100000
def RX19 : String := "CakesToTheWatched$Blushes"
abbrev cX19_shy : ByteArray := prog_3_method_1_code
def yX19_shy : MethodName := ⟨RX19, "shy", "()I"⟩
theorem dX19_shy_0 : decode cX19_shy 0 = .ok (.iconst 0, 1) := by decide +kernel
theorem dX19_shy_1 : decode cX19_shy 1 = .ok (.ireturn, 1) := by decide +kernel
theorem q443 : (Jvm.Cond.declares ({ cls := "CakesToTheWatched$Blushes", name := "shy", desc := "()I" } : Jvm.MethodName)) ∈ lw_tbl := lw_at lw_m2 165 rfl
theorem q459 : (Jvm.Cond.instanceMethod ({ cls := "CakesToTheWatched$Blushes", name := "shy", desc := "()I" } : Jvm.MethodName)) ∈ lw_all := lw_g (lw_at lw_m2 181 rfl) rfl
theorem q460 : (Jvm.Cond.publicMethod ({ cls := "CakesToTheWatched$Blushes", name := "shy", desc := "()I" } : Jvm.MethodName)) ∈ lw_tbl := lw_at lw_m2 182 rfl
theorem q461 : (Jvm.Cond.code ({ cls := "CakesToTheWatched$Blushes", name := "shy", desc := "()I" } : Jvm.MethodName) prog_3_method_1_code (1 : Nat) (Option.some Jvm.ClassFile.FieldType.int)) ∈ lw_all := lw_g (lw_at lw_m2 183 rfl) rfl
theorem q1447 : (Jvm.Cond.initialized "CakesToTheWatched$Blushes") ∈ lw_all := lw_g (lw_at lw_m6 209 rfl) rfl

/-! CakesToTheWatched$Fete -/
set_option maxRecDepth 100000
def RX2 : String := "CakesToTheWatched$Fete"
def TX2 : u_T := fun k => match k with
  | 0 => ("CakesToTheWatched$Fete", "who", "[LCakesToTheWatched$Guest;", true)
  | 1 => ("CakesToTheWatched$Fete", "hunger", "[I", true)
  | 2 => ("CakesToTheWatched$Fete", "wish", "[I", true)
  | 3 => ("CakesToTheWatched$Fete", "eaten", "[I", true)
  | 4 => ("CakesToTheWatched$Fete", "watched", "[I", true)
  | 5 => ("CakesToTheWatched$Fete", "people", "I", false)
  | 6 => ("CakesToTheWatched$Fete", "slices", "I", false)
  | _ => ("CakesToTheWatched$Fete", "step", "I", false)
def tyX2 : Nat → FieldType := fun k => match k with
  | 0 => .array (.object "CakesToTheWatched$Guest")
  | 1 => .array .int
  | 2 => .array .int
  | 3 => .array .int
  | 4 => .array .int
  | 5 => .int
  | 6 => .int
  | _ => .int
abbrev wsX20 : List Cond := u_ws RX2 TX2 8
theorem nmX2 : ∀ a, a < 8 → ∀ b, b < 8 → a ≠ b → (TX2 a).2.1 ≠ (TX2 b).2.1 := by decide +kernel
theorem tyX2_ok : ∀ k, k < 8 → parseFieldDescriptor (TX2 k).2.2.1 = some (tyX2 k) := by decide +kernel
abbrev cX2_takes : ByteArray := prog_11_method_3_code
def yX2_takes : MethodName := ⟨RX2, "takes", "(LCakesToTheWatched$Fete;)V"⟩
def dkwX2_takes_3 : List UInt8 := [180, 0, 44, 181, 0, 44, 42, 43, 180, 0, 47, 181, 0, 47, 177]
abbrev dktX2_takes_3 : List UInt8 := dkwX2_takes_3 ++ []
def dkwX2_takes_2 : List UInt8 := [184, 0, 36, 43, 180, 0, 27, 42, 180, 0, 27, 184, 0, 36, 42, 43, 180, 0, 40, 181, 0, 40, 42, 43]
abbrev dktX2_takes_2 : List UInt8 := dkwX2_takes_2 ++ dktX2_takes_3
def dkwX2_takes_1 : List UInt8 := [184, 0, 36, 43, 180, 0, 21, 42, 180, 0, 21, 184, 0, 36, 43, 180, 0, 24, 42, 180, 0, 24]
abbrev dktX2_takes_1 : List UInt8 := dkwX2_takes_1 ++ dktX2_takes_2
def dkwX2_takes_0 : List UInt8 := [43, 180, 0, 11, 3, 42, 180, 0, 11, 3, 16, 9, 184, 0, 30, 43, 180, 0, 17, 42, 180, 0, 17]
abbrev dktX2_takes_0 : List UInt8 := dkwX2_takes_0 ++ dktX2_takes_1
theorem dksX2_takes_0 : cX2_takes.data.toList.drop 0 = dktX2_takes_0 := by decide +kernel
theorem dksX2_takes_1 : cX2_takes.data.toList.drop 23 = dktX2_takes_1 := dk_seg dksX2_takes_0 23 rfl rfl
theorem dksX2_takes_2 : cX2_takes.data.toList.drop 45 = dktX2_takes_2 := dk_seg dksX2_takes_1 22 rfl rfl
theorem dksX2_takes_3 : cX2_takes.data.toList.drop 69 = dktX2_takes_3 := dk_seg dksX2_takes_2 24 rfl rfl
theorem dX2_takes_0 : decode cX2_takes 0 = .ok (.aload_n 1, 1) := dk_43 (dk_at dksX2_takes_0 0 rfl rfl)
theorem dX2_takes_1 : decode cX2_takes 1 = .ok (.getfield 11, 3) := dk_180 0 11 (dk_at dksX2_takes_0 1 rfl rfl)
theorem dX2_takes_4 : decode cX2_takes 4 = .ok (.iconst 0, 1) := dk_3 (dk_at dksX2_takes_0 4 rfl rfl)
theorem dX2_takes_5 : decode cX2_takes 5 = .ok (.aload_n 0, 1) := dk_42 (dk_at dksX2_takes_0 5 rfl rfl)
theorem dX2_takes_6 : decode cX2_takes 6 = .ok (.getfield 11, 3) := dk_180 0 11 (dk_at dksX2_takes_0 6 rfl rfl)
theorem dX2_takes_9 : decode cX2_takes 9 = .ok (.iconst 0, 1) := dk_3 (dk_at dksX2_takes_0 9 rfl rfl)
theorem dX2_takes_10 : decode cX2_takes 10 = .ok (.bipush 9, 2) := dk_16 9 (dk_at dksX2_takes_0 10 rfl rfl)
theorem dX2_takes_12 : decode cX2_takes 12 = .ok (.invokestatic 30, 3) := dk_184 0 30 (dk_at dksX2_takes_0 12 rfl rfl)
theorem dX2_takes_15 : decode cX2_takes 15 = .ok (.aload_n 1, 1) := dk_43 (dk_at dksX2_takes_0 15 rfl rfl)
theorem dX2_takes_16 : decode cX2_takes 16 = .ok (.getfield 17, 3) := dk_180 0 17 (dk_at dksX2_takes_0 16 rfl rfl)
theorem dX2_takes_19 : decode cX2_takes 19 = .ok (.aload_n 0, 1) := dk_42 (dk_at dksX2_takes_0 19 rfl rfl)
theorem dX2_takes_20 : decode cX2_takes 20 = .ok (.getfield 17, 3) := dk_180 0 17 (dk_at dksX2_takes_0 20 rfl rfl)
theorem dX2_takes_23 : decode cX2_takes 23 = .ok (.invokestatic 36, 3) := dk_184 0 36 (dk_at dksX2_takes_1 0 rfl rfl)
theorem dX2_takes_26 : decode cX2_takes 26 = .ok (.aload_n 1, 1) := dk_43 (dk_at dksX2_takes_1 3 rfl rfl)
theorem dX2_takes_27 : decode cX2_takes 27 = .ok (.getfield 21, 3) := dk_180 0 21 (dk_at dksX2_takes_1 4 rfl rfl)
theorem dX2_takes_30 : decode cX2_takes 30 = .ok (.aload_n 0, 1) := dk_42 (dk_at dksX2_takes_1 7 rfl rfl)
theorem dX2_takes_31 : decode cX2_takes 31 = .ok (.getfield 21, 3) := dk_180 0 21 (dk_at dksX2_takes_1 8 rfl rfl)
theorem dX2_takes_34 : decode cX2_takes 34 = .ok (.invokestatic 36, 3) := dk_184 0 36 (dk_at dksX2_takes_1 11 rfl rfl)
theorem dX2_takes_37 : decode cX2_takes 37 = .ok (.aload_n 1, 1) := dk_43 (dk_at dksX2_takes_1 14 rfl rfl)
theorem dX2_takes_38 : decode cX2_takes 38 = .ok (.getfield 24, 3) := dk_180 0 24 (dk_at dksX2_takes_1 15 rfl rfl)
theorem dX2_takes_41 : decode cX2_takes 41 = .ok (.aload_n 0, 1) := dk_42 (dk_at dksX2_takes_1 18 rfl rfl)
theorem dX2_takes_42 : decode cX2_takes 42 = .ok (.getfield 24, 3) := dk_180 0 24 (dk_at dksX2_takes_1 19 rfl rfl)
theorem dX2_takes_45 : decode cX2_takes 45 = .ok (.invokestatic 36, 3) := dk_184 0 36 (dk_at dksX2_takes_2 0 rfl rfl)
theorem dX2_takes_48 : decode cX2_takes 48 = .ok (.aload_n 1, 1) := dk_43 (dk_at dksX2_takes_2 3 rfl rfl)
theorem dX2_takes_49 : decode cX2_takes 49 = .ok (.getfield 27, 3) := dk_180 0 27 (dk_at dksX2_takes_2 4 rfl rfl)
theorem dX2_takes_52 : decode cX2_takes 52 = .ok (.aload_n 0, 1) := dk_42 (dk_at dksX2_takes_2 7 rfl rfl)
theorem dX2_takes_53 : decode cX2_takes 53 = .ok (.getfield 27, 3) := dk_180 0 27 (dk_at dksX2_takes_2 8 rfl rfl)
theorem dX2_takes_56 : decode cX2_takes 56 = .ok (.invokestatic 36, 3) := dk_184 0 36 (dk_at dksX2_takes_2 11 rfl rfl)
theorem dX2_takes_59 : decode cX2_takes 59 = .ok (.aload_n 0, 1) := dk_42 (dk_at dksX2_takes_2 14 rfl rfl)
theorem dX2_takes_60 : decode cX2_takes 60 = .ok (.aload_n 1, 1) := dk_43 (dk_at dksX2_takes_2 15 rfl rfl)
theorem dX2_takes_61 : decode cX2_takes 61 = .ok (.getfield 40, 3) := dk_180 0 40 (dk_at dksX2_takes_2 16 rfl rfl)
theorem dX2_takes_64 : decode cX2_takes 64 = .ok (.putfield 40, 3) := dk_181 0 40 (dk_at dksX2_takes_2 19 rfl rfl)
theorem dX2_takes_67 : decode cX2_takes 67 = .ok (.aload_n 0, 1) := dk_42 (dk_at dksX2_takes_2 22 rfl rfl)
theorem dX2_takes_68 : decode cX2_takes 68 = .ok (.aload_n 1, 1) := dk_43 (dk_at dksX2_takes_2 23 rfl rfl)
theorem dX2_takes_69 : decode cX2_takes 69 = .ok (.getfield 44, 3) := dk_180 0 44 (dk_at dksX2_takes_3 0 rfl rfl)
theorem dX2_takes_72 : decode cX2_takes 72 = .ok (.putfield 44, 3) := dk_181 0 44 (dk_at dksX2_takes_3 3 rfl rfl)
theorem dX2_takes_75 : decode cX2_takes 75 = .ok (.aload_n 0, 1) := dk_42 (dk_at dksX2_takes_3 6 rfl rfl)
theorem dX2_takes_76 : decode cX2_takes 76 = .ok (.aload_n 1, 1) := dk_43 (dk_at dksX2_takes_3 7 rfl rfl)
theorem dX2_takes_77 : decode cX2_takes 77 = .ok (.getfield 47, 3) := dk_180 0 47 (dk_at dksX2_takes_3 8 rfl rfl)
theorem dX2_takes_80 : decode cX2_takes 80 = .ok (.putfield 47, 3) := dk_181 0 47 (dk_at dksX2_takes_3 11 rfl rfl)
theorem dX2_takes_83 : decode cX2_takes 83 = .ok (.return_, 1) := dk_177 (dk_at dksX2_takes_3 14 rfl rfl)
abbrev cX2_copies : ByteArray := prog_11_method_2_code
def yX2_copies : MethodName := ⟨RX2, "copies", "([I[I)V"⟩
def dkwX2_copies_0 : List UInt8 := [42, 3, 43, 3, 43, 190, 184, 0, 30, 177]
abbrev dktX2_copies_0 : List UInt8 := dkwX2_copies_0 ++ []
theorem dksX2_copies_0 : cX2_copies.data.toList.drop 0 = dktX2_copies_0 := by decide +kernel
theorem dX2_copies_0 : decode cX2_copies 0 = .ok (.aload_n 0, 1) := dk_42 (dk_at dksX2_copies_0 0 rfl rfl)
theorem dX2_copies_1 : decode cX2_copies 1 = .ok (.iconst 0, 1) := dk_3 (dk_at dksX2_copies_0 1 rfl rfl)
theorem dX2_copies_2 : decode cX2_copies 2 = .ok (.aload_n 1, 1) := dk_43 (dk_at dksX2_copies_0 2 rfl rfl)
theorem dX2_copies_3 : decode cX2_copies 3 = .ok (.iconst 0, 1) := dk_3 (dk_at dksX2_copies_0 3 rfl rfl)
theorem dX2_copies_4 : decode cX2_copies 4 = .ok (.aload_n 1, 1) := dk_43 (dk_at dksX2_copies_0 4 rfl rfl)
theorem dX2_copies_5 : decode cX2_copies 5 = .ok (.arraylength, 1) := dk_190 (dk_at dksX2_copies_0 5 rfl rfl)
theorem dX2_copies_6 : decode cX2_copies 6 = .ok (.invokestatic 30, 3) := dk_184 0 30 (dk_at dksX2_copies_0 6 rfl rfl)
theorem dX2_copies_9 : decode cX2_copies 9 = .ok (.return_, 1) := dk_177 (dk_at dksX2_copies_0 9 rfl rfl)
abbrev cX2_comes : ByteArray := prog_11_method_6_code
def yX2_comes : MethodName := ⟨RX2, "comes", "(LCakesToTheWatched$Guest;II)I"⟩
def dkwX2_comes_2 : List UInt8 := [3, 79, 42, 89, 180, 0, 40, 4, 96, 181, 0, 40, 42, 180, 0, 40, 4, 100, 172]
abbrev dktX2_comes_2 : List UInt8 := dkwX2_comes_2 ++ []
def dkwX2_comes_1 : List UInt8 := [42, 180, 0, 40, 29, 79, 42, 180, 0, 24, 42, 180, 0, 40, 3, 79, 42, 180, 0, 27, 42, 180, 0, 40]
abbrev dktX2_comes_1 : List UInt8 := dkwX2_comes_1 ++ dktX2_comes_2
def dkwX2_comes_0 : List UInt8 := [42, 180, 0, 11, 42, 180, 0, 40, 43, 83, 42, 180, 0, 17, 42, 180, 0, 40, 28, 79, 42, 180, 0, 21]
abbrev dktX2_comes_0 : List UInt8 := dkwX2_comes_0 ++ dktX2_comes_1
theorem dksX2_comes_0 : cX2_comes.data.toList.drop 0 = dktX2_comes_0 := by decide +kernel
theorem dksX2_comes_1 : cX2_comes.data.toList.drop 24 = dktX2_comes_1 := dk_seg dksX2_comes_0 24 rfl rfl
theorem dksX2_comes_2 : cX2_comes.data.toList.drop 48 = dktX2_comes_2 := dk_seg dksX2_comes_1 24 rfl rfl
theorem dX2_comes_0 : decode cX2_comes 0 = .ok (.aload_n 0, 1) := dk_42 (dk_at dksX2_comes_0 0 rfl rfl)
theorem dX2_comes_1 : decode cX2_comes 1 = .ok (.getfield 11, 3) := dk_180 0 11 (dk_at dksX2_comes_0 1 rfl rfl)
theorem dX2_comes_4 : decode cX2_comes 4 = .ok (.aload_n 0, 1) := dk_42 (dk_at dksX2_comes_0 4 rfl rfl)
theorem dX2_comes_5 : decode cX2_comes 5 = .ok (.getfield 40, 3) := dk_180 0 40 (dk_at dksX2_comes_0 5 rfl rfl)
theorem dX2_comes_8 : decode cX2_comes 8 = .ok (.aload_n 1, 1) := dk_43 (dk_at dksX2_comes_0 8 rfl rfl)
theorem dX2_comes_9 : decode cX2_comes 9 = .ok (.aastore, 1) := dk_83 (dk_at dksX2_comes_0 9 rfl rfl)
theorem dX2_comes_10 : decode cX2_comes 10 = .ok (.aload_n 0, 1) := dk_42 (dk_at dksX2_comes_0 10 rfl rfl)
theorem dX2_comes_11 : decode cX2_comes 11 = .ok (.getfield 17, 3) := dk_180 0 17 (dk_at dksX2_comes_0 11 rfl rfl)
theorem dX2_comes_14 : decode cX2_comes 14 = .ok (.aload_n 0, 1) := dk_42 (dk_at dksX2_comes_0 14 rfl rfl)
theorem dX2_comes_15 : decode cX2_comes 15 = .ok (.getfield 40, 3) := dk_180 0 40 (dk_at dksX2_comes_0 15 rfl rfl)
theorem dX2_comes_18 : decode cX2_comes 18 = .ok (.iload_n 2, 1) := dk_28 (dk_at dksX2_comes_0 18 rfl rfl)
theorem dX2_comes_19 : decode cX2_comes 19 = .ok (.iastore, 1) := dk_79 (dk_at dksX2_comes_0 19 rfl rfl)
theorem dX2_comes_20 : decode cX2_comes 20 = .ok (.aload_n 0, 1) := dk_42 (dk_at dksX2_comes_0 20 rfl rfl)
theorem dX2_comes_21 : decode cX2_comes 21 = .ok (.getfield 21, 3) := dk_180 0 21 (dk_at dksX2_comes_0 21 rfl rfl)
theorem dX2_comes_24 : decode cX2_comes 24 = .ok (.aload_n 0, 1) := dk_42 (dk_at dksX2_comes_1 0 rfl rfl)
theorem dX2_comes_25 : decode cX2_comes 25 = .ok (.getfield 40, 3) := dk_180 0 40 (dk_at dksX2_comes_1 1 rfl rfl)
theorem dX2_comes_28 : decode cX2_comes 28 = .ok (.iload_n 3, 1) := dk_29 (dk_at dksX2_comes_1 4 rfl rfl)
theorem dX2_comes_29 : decode cX2_comes 29 = .ok (.iastore, 1) := dk_79 (dk_at dksX2_comes_1 5 rfl rfl)
theorem dX2_comes_30 : decode cX2_comes 30 = .ok (.aload_n 0, 1) := dk_42 (dk_at dksX2_comes_1 6 rfl rfl)
theorem dX2_comes_31 : decode cX2_comes 31 = .ok (.getfield 24, 3) := dk_180 0 24 (dk_at dksX2_comes_1 7 rfl rfl)
theorem dX2_comes_34 : decode cX2_comes 34 = .ok (.aload_n 0, 1) := dk_42 (dk_at dksX2_comes_1 10 rfl rfl)
theorem dX2_comes_35 : decode cX2_comes 35 = .ok (.getfield 40, 3) := dk_180 0 40 (dk_at dksX2_comes_1 11 rfl rfl)
theorem dX2_comes_38 : decode cX2_comes 38 = .ok (.iconst 0, 1) := dk_3 (dk_at dksX2_comes_1 14 rfl rfl)
theorem dX2_comes_39 : decode cX2_comes 39 = .ok (.iastore, 1) := dk_79 (dk_at dksX2_comes_1 15 rfl rfl)
theorem dX2_comes_40 : decode cX2_comes 40 = .ok (.aload_n 0, 1) := dk_42 (dk_at dksX2_comes_1 16 rfl rfl)
theorem dX2_comes_41 : decode cX2_comes 41 = .ok (.getfield 27, 3) := dk_180 0 27 (dk_at dksX2_comes_1 17 rfl rfl)
theorem dX2_comes_44 : decode cX2_comes 44 = .ok (.aload_n 0, 1) := dk_42 (dk_at dksX2_comes_1 20 rfl rfl)
theorem dX2_comes_45 : decode cX2_comes 45 = .ok (.getfield 40, 3) := dk_180 0 40 (dk_at dksX2_comes_1 21 rfl rfl)
theorem dX2_comes_48 : decode cX2_comes 48 = .ok (.iconst 0, 1) := dk_3 (dk_at dksX2_comes_2 0 rfl rfl)
theorem dX2_comes_49 : decode cX2_comes 49 = .ok (.iastore, 1) := dk_79 (dk_at dksX2_comes_2 1 rfl rfl)
theorem dX2_comes_50 : decode cX2_comes 50 = .ok (.aload_n 0, 1) := dk_42 (dk_at dksX2_comes_2 2 rfl rfl)
theorem dX2_comes_51 : decode cX2_comes 51 = .ok (.dup, 1) := dk_89 (dk_at dksX2_comes_2 3 rfl rfl)
theorem dX2_comes_52 : decode cX2_comes 52 = .ok (.getfield 40, 3) := dk_180 0 40 (dk_at dksX2_comes_2 4 rfl rfl)
theorem dX2_comes_55 : decode cX2_comes 55 = .ok (.iconst 1, 1) := dk_4 (dk_at dksX2_comes_2 7 rfl rfl)
theorem dX2_comes_56 : decode cX2_comes 56 = .ok (.iadd, 1) := dk_96 (dk_at dksX2_comes_2 8 rfl rfl)
theorem dX2_comes_57 : decode cX2_comes 57 = .ok (.putfield 40, 3) := dk_181 0 40 (dk_at dksX2_comes_2 9 rfl rfl)
theorem dX2_comes_60 : decode cX2_comes 60 = .ok (.aload_n 0, 1) := dk_42 (dk_at dksX2_comes_2 12 rfl rfl)
theorem dX2_comes_61 : decode cX2_comes 61 = .ok (.getfield 40, 3) := dk_180 0 40 (dk_at dksX2_comes_2 13 rfl rfl)
theorem dX2_comes_64 : decode cX2_comes 64 = .ok (.iconst 1, 1) := dk_4 (dk_at dksX2_comes_2 16 rfl rfl)
theorem dX2_comes_65 : decode cX2_comes 65 = .ok (.isub, 1) := dk_100 (dk_at dksX2_comes_2 17 rfl rfl)
theorem dX2_comes_66 : decode cX2_comes 66 = .ok (.ireturn, 1) := dk_172 (dk_at dksX2_comes_2 18 rfl rfl)
abbrev cX2_canEat : ByteArray := prog_11_method_8_code
def yX2_canEat : MethodName := ⟨RX2, "canEat", "(II)Z"⟩
def dkwX2_canEat_1 : List UInt8 := [158, 0, 15, 42, 28, 182, 0, 66, 153, 0, 7, 4, 167, 0, 4, 3, 172]
abbrev dktX2_canEat_1 : List UInt8 := dkwX2_canEat_1 ++ []
def dkwX2_canEat_0 : List UInt8 := [42, 27, 28, 182, 0, 62, 153, 0, 31, 42, 180, 0, 44, 158, 0, 24, 42, 180, 0, 17, 27, 46]
abbrev dktX2_canEat_0 : List UInt8 := dkwX2_canEat_0 ++ dktX2_canEat_1
theorem dksX2_canEat_0 : cX2_canEat.data.toList.drop 0 = dktX2_canEat_0 := by decide +kernel
theorem dksX2_canEat_1 : cX2_canEat.data.toList.drop 22 = dktX2_canEat_1 := dk_seg dksX2_canEat_0 22 rfl rfl
theorem dX2_canEat_0 : decode cX2_canEat 0 = .ok (.aload_n 0, 1) := dk_42 (dk_at dksX2_canEat_0 0 rfl rfl)
theorem dX2_canEat_1 : decode cX2_canEat 1 = .ok (.iload_n 1, 1) := dk_27 (dk_at dksX2_canEat_0 1 rfl rfl)
theorem dX2_canEat_2 : decode cX2_canEat 2 = .ok (.iload_n 2, 1) := dk_28 (dk_at dksX2_canEat_0 2 rfl rfl)
theorem dX2_canEat_3 : decode cX2_canEat 3 = .ok (.invokevirtual 62, 3) := dk_182 0 62 (dk_at dksX2_canEat_0 3 rfl rfl)
theorem dX2_canEat_6 : decode cX2_canEat 6 = .ok (.ifCond .eq 31, 3) := dk_153 0 31 (dk_at dksX2_canEat_0 6 rfl rfl)
theorem dX2_canEat_9 : decode cX2_canEat 9 = .ok (.aload_n 0, 1) := dk_42 (dk_at dksX2_canEat_0 9 rfl rfl)
theorem dX2_canEat_10 : decode cX2_canEat 10 = .ok (.getfield 44, 3) := dk_180 0 44 (dk_at dksX2_canEat_0 10 rfl rfl)
theorem dX2_canEat_13 : decode cX2_canEat 13 = .ok (.ifCond .le 24, 3) := dk_158 0 24 (dk_at dksX2_canEat_0 13 rfl rfl)
theorem dX2_canEat_16 : decode cX2_canEat 16 = .ok (.aload_n 0, 1) := dk_42 (dk_at dksX2_canEat_0 16 rfl rfl)
theorem dX2_canEat_17 : decode cX2_canEat 17 = .ok (.getfield 17, 3) := dk_180 0 17 (dk_at dksX2_canEat_0 17 rfl rfl)
theorem dX2_canEat_20 : decode cX2_canEat 20 = .ok (.iload_n 1, 1) := dk_27 (dk_at dksX2_canEat_0 20 rfl rfl)
theorem dX2_canEat_21 : decode cX2_canEat 21 = .ok (.iaload, 1) := dk_46 (dk_at dksX2_canEat_0 21 rfl rfl)
theorem dX2_canEat_22 : decode cX2_canEat 22 = .ok (.ifCond .le 15, 3) := dk_158 0 15 (dk_at dksX2_canEat_1 0 rfl rfl)
theorem dX2_canEat_25 : decode cX2_canEat 25 = .ok (.aload_n 0, 1) := dk_42 (dk_at dksX2_canEat_1 3 rfl rfl)
theorem dX2_canEat_26 : decode cX2_canEat 26 = .ok (.iload_n 2, 1) := dk_28 (dk_at dksX2_canEat_1 4 rfl rfl)
theorem dX2_canEat_27 : decode cX2_canEat 27 = .ok (.invokevirtual 66, 3) := dk_182 0 66 (dk_at dksX2_canEat_1 5 rfl rfl)
theorem dX2_canEat_30 : decode cX2_canEat 30 = .ok (.ifCond .eq 7, 3) := dk_153 0 7 (dk_at dksX2_canEat_1 8 rfl rfl)
theorem dX2_canEat_33 : decode cX2_canEat 33 = .ok (.iconst 1, 1) := dk_4 (dk_at dksX2_canEat_1 11 rfl rfl)
theorem dX2_canEat_34 : decode cX2_canEat 34 = .ok (.goto 4, 3) := dk_167 0 4 (dk_at dksX2_canEat_1 12 rfl rfl)
theorem dX2_canEat_37 : decode cX2_canEat 37 = .ok (.iconst 0, 1) := dk_3 (dk_at dksX2_canEat_1 15 rfl rfl)
theorem dX2_canEat_38 : decode cX2_canEat 38 = .ok (.ireturn, 1) := dk_172 (dk_at dksX2_canEat_1 16 rfl rfl)
abbrev cX2_areTwo : ByteArray := prog_11_method_5_code
def yX2_areTwo : MethodName := ⟨RX2, "areTwo", "(II)Z"⟩
def dkwX2_areTwo_1 : List UInt8 := [167, 0, 4, 3, 172]
abbrev dktX2_areTwo_1 : List UInt8 := dkwX2_areTwo_1 ++ []
def dkwX2_areTwo_0 : List UInt8 := [42, 27, 182, 0, 54, 153, 0, 20, 42, 28, 182, 0, 54, 153, 0, 12, 27, 28, 159, 0, 7, 4]
abbrev dktX2_areTwo_0 : List UInt8 := dkwX2_areTwo_0 ++ dktX2_areTwo_1
theorem dksX2_areTwo_0 : cX2_areTwo.data.toList.drop 0 = dktX2_areTwo_0 := by decide +kernel
theorem dksX2_areTwo_1 : cX2_areTwo.data.toList.drop 22 = dktX2_areTwo_1 := dk_seg dksX2_areTwo_0 22 rfl rfl
theorem dX2_areTwo_0 : decode cX2_areTwo 0 = .ok (.aload_n 0, 1) := dk_42 (dk_at dksX2_areTwo_0 0 rfl rfl)
theorem dX2_areTwo_1 : decode cX2_areTwo 1 = .ok (.iload_n 1, 1) := dk_27 (dk_at dksX2_areTwo_0 1 rfl rfl)
theorem dX2_areTwo_2 : decode cX2_areTwo 2 = .ok (.invokevirtual 54, 3) := dk_182 0 54 (dk_at dksX2_areTwo_0 2 rfl rfl)
theorem dX2_areTwo_5 : decode cX2_areTwo 5 = .ok (.ifCond .eq 20, 3) := dk_153 0 20 (dk_at dksX2_areTwo_0 5 rfl rfl)
theorem dX2_areTwo_8 : decode cX2_areTwo 8 = .ok (.aload_n 0, 1) := dk_42 (dk_at dksX2_areTwo_0 8 rfl rfl)
theorem dX2_areTwo_9 : decode cX2_areTwo 9 = .ok (.iload_n 2, 1) := dk_28 (dk_at dksX2_areTwo_0 9 rfl rfl)
theorem dX2_areTwo_10 : decode cX2_areTwo 10 = .ok (.invokevirtual 54, 3) := dk_182 0 54 (dk_at dksX2_areTwo_0 10 rfl rfl)
theorem dX2_areTwo_13 : decode cX2_areTwo 13 = .ok (.ifCond .eq 12, 3) := dk_153 0 12 (dk_at dksX2_areTwo_0 13 rfl rfl)
theorem dX2_areTwo_16 : decode cX2_areTwo 16 = .ok (.iload_n 1, 1) := dk_27 (dk_at dksX2_areTwo_0 16 rfl rfl)
theorem dX2_areTwo_17 : decode cX2_areTwo 17 = .ok (.iload_n 2, 1) := dk_28 (dk_at dksX2_areTwo_0 17 rfl rfl)
theorem dX2_areTwo_18 : decode cX2_areTwo 18 = .ok (.if_icmp .eq 7, 3) := dk_159 0 7 (dk_at dksX2_areTwo_0 18 rfl rfl)
theorem dX2_areTwo_21 : decode cX2_areTwo 21 = .ok (.iconst 1, 1) := dk_4 (dk_at dksX2_areTwo_0 21 rfl rfl)
theorem dX2_areTwo_22 : decode cX2_areTwo 22 = .ok (.goto 4, 3) := dk_167 0 4 (dk_at dksX2_areTwo_1 0 rfl rfl)
theorem dX2_areTwo_25 : decode cX2_areTwo 25 = .ok (.iconst 0, 1) := dk_3 (dk_at dksX2_areTwo_1 3 rfl rfl)
theorem dX2_areTwo_26 : decode cX2_areTwo 26 = .ok (.ireturn, 1) := dk_172 (dk_at dksX2_areTwo_1 4 rfl rfl)
abbrev cX2_isOne : ByteArray := prog_11_method_4_code
def yX2_isOne : MethodName := ⟨RX2, "isOne", "(I)Z"⟩
def dkwX2_isOne_0 : List UInt8 := [27, 3, 42, 180, 0, 40, 4, 100, 184, 0, 50, 172]
abbrev dktX2_isOne_0 : List UInt8 := dkwX2_isOne_0 ++ []
theorem dksX2_isOne_0 : cX2_isOne.data.toList.drop 0 = dktX2_isOne_0 := by decide +kernel
theorem dX2_isOne_0 : decode cX2_isOne 0 = .ok (.iload_n 1, 1) := dk_27 (dk_at dksX2_isOne_0 0 rfl rfl)
theorem dX2_isOne_1 : decode cX2_isOne 1 = .ok (.iconst 0, 1) := dk_3 (dk_at dksX2_isOne_0 1 rfl rfl)
theorem dX2_isOne_2 : decode cX2_isOne 2 = .ok (.aload_n 0, 1) := dk_42 (dk_at dksX2_isOne_0 2 rfl rfl)
theorem dX2_isOne_3 : decode cX2_isOne 3 = .ok (.getfield 40, 3) := dk_180 0 40 (dk_at dksX2_isOne_0 3 rfl rfl)
theorem dX2_isOne_6 : decode cX2_isOne 6 = .ok (.iconst 1, 1) := dk_4 (dk_at dksX2_isOne_0 6 rfl rfl)
theorem dX2_isOne_7 : decode cX2_isOne 7 = .ok (.isub, 1) := dk_100 (dk_at dksX2_isOne_0 7 rfl rfl)
theorem dX2_isOne_8 : decode cX2_isOne 8 = .ok (.invokestatic 50, 3) := dk_184 0 50 (dk_at dksX2_isOne_0 8 rfl rfl)
theorem dX2_isOne_11 : decode cX2_isOne 11 = .ok (.ireturn, 1) := dk_172 (dk_at dksX2_isOne_0 11 rfl rfl)
abbrev cX2_canLook : ByteArray := prog_11_method_7_code
def yX2_canLook : MethodName := ⟨RX2, "canLook", "(I)Z"⟩
def dkwX2_canLook_1 : List UInt8 := [167, 0, 4, 3, 172]
abbrev dktX2_canLook_1 : List UInt8 := dkwX2_canLook_1 ++ []
def dkwX2_canLook_0 : List UInt8 := [42, 180, 0, 24, 27, 46, 154, 0, 19, 42, 180, 0, 11, 27, 50, 182, 0, 58, 153, 0, 7, 4]
abbrev dktX2_canLook_0 : List UInt8 := dkwX2_canLook_0 ++ dktX2_canLook_1
theorem dksX2_canLook_0 : cX2_canLook.data.toList.drop 0 = dktX2_canLook_0 := by decide +kernel
theorem dksX2_canLook_1 : cX2_canLook.data.toList.drop 22 = dktX2_canLook_1 := dk_seg dksX2_canLook_0 22 rfl rfl
theorem dX2_canLook_0 : decode cX2_canLook 0 = .ok (.aload_n 0, 1) := dk_42 (dk_at dksX2_canLook_0 0 rfl rfl)
theorem dX2_canLook_1 : decode cX2_canLook 1 = .ok (.getfield 24, 3) := dk_180 0 24 (dk_at dksX2_canLook_0 1 rfl rfl)
theorem dX2_canLook_4 : decode cX2_canLook 4 = .ok (.iload_n 1, 1) := dk_27 (dk_at dksX2_canLook_0 4 rfl rfl)
theorem dX2_canLook_5 : decode cX2_canLook 5 = .ok (.iaload, 1) := dk_46 (dk_at dksX2_canLook_0 5 rfl rfl)
theorem dX2_canLook_6 : decode cX2_canLook 6 = .ok (.ifCond .ne 19, 3) := dk_154 0 19 (dk_at dksX2_canLook_0 6 rfl rfl)
theorem dX2_canLook_9 : decode cX2_canLook 9 = .ok (.aload_n 0, 1) := dk_42 (dk_at dksX2_canLook_0 9 rfl rfl)
theorem dX2_canLook_10 : decode cX2_canLook 10 = .ok (.getfield 11, 3) := dk_180 0 11 (dk_at dksX2_canLook_0 10 rfl rfl)
theorem dX2_canLook_13 : decode cX2_canLook 13 = .ok (.iload_n 1, 1) := dk_27 (dk_at dksX2_canLook_0 13 rfl rfl)
theorem dX2_canLook_14 : decode cX2_canLook 14 = .ok (.aaload, 1) := dk_50 (dk_at dksX2_canLook_0 14 rfl rfl)
theorem dX2_canLook_15 : decode cX2_canLook 15 = .ok (.invokevirtual 58, 3) := dk_182 0 58 (dk_at dksX2_canLook_0 15 rfl rfl)
theorem dX2_canLook_18 : decode cX2_canLook 18 = .ok (.ifCond .eq 7, 3) := dk_153 0 7 (dk_at dksX2_canLook_0 18 rfl rfl)
theorem dX2_canLook_21 : decode cX2_canLook 21 = .ok (.iconst 1, 1) := dk_4 (dk_at dksX2_canLook_0 21 rfl rfl)
theorem dX2_canLook_22 : decode cX2_canLook 22 = .ok (.goto 4, 3) := dk_167 0 4 (dk_at dksX2_canLook_1 0 rfl rfl)
theorem dX2_canLook_25 : decode cX2_canLook 25 = .ok (.iconst 0, 1) := dk_3 (dk_at dksX2_canLook_1 3 rfl rfl)
theorem dX2_canLook_26 : decode cX2_canLook 26 = .ok (.ireturn, 1) := dk_172 (dk_at dksX2_canLook_1 4 rfl rfl)
abbrev cX2_eats : ByteArray := prog_11_method_13_code
def yX2_eats : MethodName := ⟨RX2, "eats", "(II)I"⟩
def dkwX2_eats_4 : List UInt8 := [29, 172]
abbrev dktX2_eats_4 : List UInt8 := dkwX2_eats_4 ++ []
def dkwX2_eats_3 : List UInt8 := [184, 0, 73, 79, 42, 89, 180, 0, 44, 4, 100, 181, 0, 44, 42, 89, 180, 0, 47, 4, 96, 181, 0, 47]
abbrev dktX2_eats_3 : List UInt8 := dkwX2_eats_3 ++ dktX2_eats_4
def dkwX2_eats_2 : List UInt8 := [27, 46, 4, 96, 184, 0, 73, 79, 42, 180, 0, 27, 28, 16, 99, 42, 180, 0, 27, 28, 46, 4, 96]
abbrev dktX2_eats_2 : List UInt8 := dkwX2_eats_2 ++ dktX2_eats_3
def dkwX2_eats_1 : List UInt8 := [180, 0, 21, 28, 92, 46, 42, 28, 182, 0, 95, 100, 79, 42, 180, 0, 24, 27, 16, 99, 42, 180, 0, 24]
abbrev dktX2_eats_1 : List UInt8 := dkwX2_eats_1 ++ dktX2_eats_2
def dkwX2_eats_0 : List UInt8 := [42, 27, 28, 182, 0, 98, 62, 42, 180, 0, 17, 27, 92, 46, 42, 27, 182, 0, 82, 100, 79, 42]
abbrev dktX2_eats_0 : List UInt8 := dkwX2_eats_0 ++ dktX2_eats_1
theorem dksX2_eats_0 : cX2_eats.data.toList.drop 0 = dktX2_eats_0 := by decide +kernel
theorem dksX2_eats_1 : cX2_eats.data.toList.drop 22 = dktX2_eats_1 := dk_seg dksX2_eats_0 22 rfl rfl
theorem dksX2_eats_2 : cX2_eats.data.toList.drop 46 = dktX2_eats_2 := dk_seg dksX2_eats_1 24 rfl rfl
theorem dksX2_eats_3 : cX2_eats.data.toList.drop 69 = dktX2_eats_3 := dk_seg dksX2_eats_2 23 rfl rfl
theorem dksX2_eats_4 : cX2_eats.data.toList.drop 93 = dktX2_eats_4 := dk_seg dksX2_eats_3 24 rfl rfl
theorem dX2_eats_0 : decode cX2_eats 0 = .ok (.aload_n 0, 1) := dk_42 (dk_at dksX2_eats_0 0 rfl rfl)
theorem dX2_eats_1 : decode cX2_eats 1 = .ok (.iload_n 1, 1) := dk_27 (dk_at dksX2_eats_0 1 rfl rfl)
theorem dX2_eats_2 : decode cX2_eats 2 = .ok (.iload_n 2, 1) := dk_28 (dk_at dksX2_eats_0 2 rfl rfl)
theorem dX2_eats_3 : decode cX2_eats 3 = .ok (.invokevirtual 98, 3) := dk_182 0 98 (dk_at dksX2_eats_0 3 rfl rfl)
theorem dX2_eats_6 : decode cX2_eats 6 = .ok (.istore_n 3, 1) := dk_62 (dk_at dksX2_eats_0 6 rfl rfl)
theorem dX2_eats_7 : decode cX2_eats 7 = .ok (.aload_n 0, 1) := dk_42 (dk_at dksX2_eats_0 7 rfl rfl)
theorem dX2_eats_8 : decode cX2_eats 8 = .ok (.getfield 17, 3) := dk_180 0 17 (dk_at dksX2_eats_0 8 rfl rfl)
theorem dX2_eats_11 : decode cX2_eats 11 = .ok (.iload_n 1, 1) := dk_27 (dk_at dksX2_eats_0 11 rfl rfl)
theorem dX2_eats_12 : decode cX2_eats 12 = .ok (.dup2, 1) := dk_92 (dk_at dksX2_eats_0 12 rfl rfl)
theorem dX2_eats_13 : decode cX2_eats 13 = .ok (.iaload, 1) := dk_46 (dk_at dksX2_eats_0 13 rfl rfl)
theorem dX2_eats_14 : decode cX2_eats 14 = .ok (.aload_n 0, 1) := dk_42 (dk_at dksX2_eats_0 14 rfl rfl)
theorem dX2_eats_15 : decode cX2_eats 15 = .ok (.iload_n 1, 1) := dk_27 (dk_at dksX2_eats_0 15 rfl rfl)
theorem dX2_eats_16 : decode cX2_eats 16 = .ok (.invokevirtual 82, 3) := dk_182 0 82 (dk_at dksX2_eats_0 16 rfl rfl)
theorem dX2_eats_19 : decode cX2_eats 19 = .ok (.isub, 1) := dk_100 (dk_at dksX2_eats_0 19 rfl rfl)
theorem dX2_eats_20 : decode cX2_eats 20 = .ok (.iastore, 1) := dk_79 (dk_at dksX2_eats_0 20 rfl rfl)
theorem dX2_eats_21 : decode cX2_eats 21 = .ok (.aload_n 0, 1) := dk_42 (dk_at dksX2_eats_0 21 rfl rfl)
theorem dX2_eats_22 : decode cX2_eats 22 = .ok (.getfield 21, 3) := dk_180 0 21 (dk_at dksX2_eats_1 0 rfl rfl)
theorem dX2_eats_25 : decode cX2_eats 25 = .ok (.iload_n 2, 1) := dk_28 (dk_at dksX2_eats_1 3 rfl rfl)
theorem dX2_eats_26 : decode cX2_eats 26 = .ok (.dup2, 1) := dk_92 (dk_at dksX2_eats_1 4 rfl rfl)
theorem dX2_eats_27 : decode cX2_eats 27 = .ok (.iaload, 1) := dk_46 (dk_at dksX2_eats_1 5 rfl rfl)
theorem dX2_eats_28 : decode cX2_eats 28 = .ok (.aload_n 0, 1) := dk_42 (dk_at dksX2_eats_1 6 rfl rfl)
theorem dX2_eats_29 : decode cX2_eats 29 = .ok (.iload_n 2, 1) := dk_28 (dk_at dksX2_eats_1 7 rfl rfl)
theorem dX2_eats_30 : decode cX2_eats 30 = .ok (.invokevirtual 95, 3) := dk_182 0 95 (dk_at dksX2_eats_1 8 rfl rfl)
theorem dX2_eats_33 : decode cX2_eats 33 = .ok (.isub, 1) := dk_100 (dk_at dksX2_eats_1 11 rfl rfl)
theorem dX2_eats_34 : decode cX2_eats 34 = .ok (.iastore, 1) := dk_79 (dk_at dksX2_eats_1 12 rfl rfl)
theorem dX2_eats_35 : decode cX2_eats 35 = .ok (.aload_n 0, 1) := dk_42 (dk_at dksX2_eats_1 13 rfl rfl)
theorem dX2_eats_36 : decode cX2_eats 36 = .ok (.getfield 24, 3) := dk_180 0 24 (dk_at dksX2_eats_1 14 rfl rfl)
theorem dX2_eats_39 : decode cX2_eats 39 = .ok (.iload_n 1, 1) := dk_27 (dk_at dksX2_eats_1 17 rfl rfl)
theorem dX2_eats_40 : decode cX2_eats 40 = .ok (.bipush 99, 2) := dk_16 99 (dk_at dksX2_eats_1 18 rfl rfl)
theorem dX2_eats_42 : decode cX2_eats 42 = .ok (.aload_n 0, 1) := dk_42 (dk_at dksX2_eats_1 20 rfl rfl)
theorem dX2_eats_43 : decode cX2_eats 43 = .ok (.getfield 24, 3) := dk_180 0 24 (dk_at dksX2_eats_1 21 rfl rfl)
theorem dX2_eats_46 : decode cX2_eats 46 = .ok (.iload_n 1, 1) := dk_27 (dk_at dksX2_eats_2 0 rfl rfl)
theorem dX2_eats_47 : decode cX2_eats 47 = .ok (.iaload, 1) := dk_46 (dk_at dksX2_eats_2 1 rfl rfl)
theorem dX2_eats_48 : decode cX2_eats 48 = .ok (.iconst 1, 1) := dk_4 (dk_at dksX2_eats_2 2 rfl rfl)
theorem dX2_eats_49 : decode cX2_eats 49 = .ok (.iadd, 1) := dk_96 (dk_at dksX2_eats_2 3 rfl rfl)
theorem dX2_eats_50 : decode cX2_eats 50 = .ok (.invokestatic 73, 3) := dk_184 0 73 (dk_at dksX2_eats_2 4 rfl rfl)
theorem dX2_eats_53 : decode cX2_eats 53 = .ok (.iastore, 1) := dk_79 (dk_at dksX2_eats_2 7 rfl rfl)
theorem dX2_eats_54 : decode cX2_eats 54 = .ok (.aload_n 0, 1) := dk_42 (dk_at dksX2_eats_2 8 rfl rfl)
theorem dX2_eats_55 : decode cX2_eats 55 = .ok (.getfield 27, 3) := dk_180 0 27 (dk_at dksX2_eats_2 9 rfl rfl)
theorem dX2_eats_58 : decode cX2_eats 58 = .ok (.iload_n 2, 1) := dk_28 (dk_at dksX2_eats_2 12 rfl rfl)
theorem dX2_eats_59 : decode cX2_eats 59 = .ok (.bipush 99, 2) := dk_16 99 (dk_at dksX2_eats_2 13 rfl rfl)
theorem dX2_eats_61 : decode cX2_eats 61 = .ok (.aload_n 0, 1) := dk_42 (dk_at dksX2_eats_2 15 rfl rfl)
theorem dX2_eats_62 : decode cX2_eats 62 = .ok (.getfield 27, 3) := dk_180 0 27 (dk_at dksX2_eats_2 16 rfl rfl)
theorem dX2_eats_65 : decode cX2_eats 65 = .ok (.iload_n 2, 1) := dk_28 (dk_at dksX2_eats_2 19 rfl rfl)
theorem dX2_eats_66 : decode cX2_eats 66 = .ok (.iaload, 1) := dk_46 (dk_at dksX2_eats_2 20 rfl rfl)
theorem dX2_eats_67 : decode cX2_eats 67 = .ok (.iconst 1, 1) := dk_4 (dk_at dksX2_eats_2 21 rfl rfl)
theorem dX2_eats_68 : decode cX2_eats 68 = .ok (.iadd, 1) := dk_96 (dk_at dksX2_eats_2 22 rfl rfl)
theorem dX2_eats_69 : decode cX2_eats 69 = .ok (.invokestatic 73, 3) := dk_184 0 73 (dk_at dksX2_eats_3 0 rfl rfl)
theorem dX2_eats_72 : decode cX2_eats 72 = .ok (.iastore, 1) := dk_79 (dk_at dksX2_eats_3 3 rfl rfl)
theorem dX2_eats_73 : decode cX2_eats 73 = .ok (.aload_n 0, 1) := dk_42 (dk_at dksX2_eats_3 4 rfl rfl)
theorem dX2_eats_74 : decode cX2_eats 74 = .ok (.dup, 1) := dk_89 (dk_at dksX2_eats_3 5 rfl rfl)
theorem dX2_eats_75 : decode cX2_eats 75 = .ok (.getfield 44, 3) := dk_180 0 44 (dk_at dksX2_eats_3 6 rfl rfl)
theorem dX2_eats_78 : decode cX2_eats 78 = .ok (.iconst 1, 1) := dk_4 (dk_at dksX2_eats_3 9 rfl rfl)
theorem dX2_eats_79 : decode cX2_eats 79 = .ok (.isub, 1) := dk_100 (dk_at dksX2_eats_3 10 rfl rfl)
theorem dX2_eats_80 : decode cX2_eats 80 = .ok (.putfield 44, 3) := dk_181 0 44 (dk_at dksX2_eats_3 11 rfl rfl)
theorem dX2_eats_83 : decode cX2_eats 83 = .ok (.aload_n 0, 1) := dk_42 (dk_at dksX2_eats_3 14 rfl rfl)
theorem dX2_eats_84 : decode cX2_eats 84 = .ok (.dup, 1) := dk_89 (dk_at dksX2_eats_3 15 rfl rfl)
theorem dX2_eats_85 : decode cX2_eats 85 = .ok (.getfield 47, 3) := dk_180 0 47 (dk_at dksX2_eats_3 16 rfl rfl)
theorem dX2_eats_88 : decode cX2_eats 88 = .ok (.iconst 1, 1) := dk_4 (dk_at dksX2_eats_3 19 rfl rfl)
theorem dX2_eats_89 : decode cX2_eats 89 = .ok (.iadd, 1) := dk_96 (dk_at dksX2_eats_3 20 rfl rfl)
theorem dX2_eats_90 : decode cX2_eats 90 = .ok (.putfield 47, 3) := dk_181 0 47 (dk_at dksX2_eats_3 21 rfl rfl)
theorem dX2_eats_93 : decode cX2_eats 93 = .ok (.iload_n 3, 1) := dk_29 (dk_at dksX2_eats_4 0 rfl rfl)
theorem dX2_eats_94 : decode cX2_eats 94 = .ok (.ireturn, 1) := dk_172 (dk_at dksX2_eats_4 1 rfl rfl)
abbrev cX2_joys : ByteArray := prog_11_method_12_code
def yX2_joys : MethodName := ⟨RX2, "joys", "(II)I"⟩
def dkwX2_joys_0 : List UInt8 := [42, 27, 28, 182, 0, 92, 42, 28, 182, 0, 95, 96, 172]
abbrev dktX2_joys_0 : List UInt8 := dkwX2_joys_0 ++ []
theorem dksX2_joys_0 : cX2_joys.data.toList.drop 0 = dktX2_joys_0 := by decide +kernel
theorem dX2_joys_0 : decode cX2_joys 0 = .ok (.aload_n 0, 1) := dk_42 (dk_at dksX2_joys_0 0 rfl rfl)
theorem dX2_joys_1 : decode cX2_joys 1 = .ok (.iload_n 1, 1) := dk_27 (dk_at dksX2_joys_0 1 rfl rfl)
theorem dX2_joys_2 : decode cX2_joys 2 = .ok (.iload_n 2, 1) := dk_28 (dk_at dksX2_joys_0 2 rfl rfl)
theorem dX2_joys_3 : decode cX2_joys 3 = .ok (.invokevirtual 92, 3) := dk_182 0 92 (dk_at dksX2_joys_0 3 rfl rfl)
theorem dX2_joys_6 : decode cX2_joys 6 = .ok (.aload_n 0, 1) := dk_42 (dk_at dksX2_joys_0 6 rfl rfl)
theorem dX2_joys_7 : decode cX2_joys 7 = .ok (.iload_n 2, 1) := dk_28 (dk_at dksX2_joys_0 7 rfl rfl)
theorem dX2_joys_8 : decode cX2_joys 8 = .ok (.invokevirtual 95, 3) := dk_182 0 95 (dk_at dksX2_joys_0 8 rfl rfl)
theorem dX2_joys_11 : decode cX2_joys 11 = .ok (.iadd, 1) := dk_96 (dk_at dksX2_joys_0 11 rfl rfl)
theorem dX2_joys_12 : decode cX2_joys 12 = .ok (.ireturn, 1) := dk_172 (dk_at dksX2_joys_0 12 rfl rfl)
abbrev cX2_joyOf : ByteArray := prog_11_method_11_code
def yX2_joyOf : MethodName := ⟨RX2, "joyOf", "(II)I"⟩
def dkwX2_joyOf_1 : List UInt8 := [184, 0, 89, 172]
abbrev dktX2_joyOf_1 : List UInt8 := dkwX2_joyOf_1 ++ []
def dkwX2_joyOf_0 : List UInt8 := [3, 42, 27, 182, 0, 82, 42, 180, 0, 11, 27, 50, 182, 0, 86, 42, 180, 0, 27, 28, 46, 104, 100]
abbrev dktX2_joyOf_0 : List UInt8 := dkwX2_joyOf_0 ++ dktX2_joyOf_1
theorem dksX2_joyOf_0 : cX2_joyOf.data.toList.drop 0 = dktX2_joyOf_0 := by decide +kernel
theorem dksX2_joyOf_1 : cX2_joyOf.data.toList.drop 23 = dktX2_joyOf_1 := dk_seg dksX2_joyOf_0 23 rfl rfl
theorem dX2_joyOf_0 : decode cX2_joyOf 0 = .ok (.iconst 0, 1) := dk_3 (dk_at dksX2_joyOf_0 0 rfl rfl)
theorem dX2_joyOf_1 : decode cX2_joyOf 1 = .ok (.aload_n 0, 1) := dk_42 (dk_at dksX2_joyOf_0 1 rfl rfl)
theorem dX2_joyOf_2 : decode cX2_joyOf 2 = .ok (.iload_n 1, 1) := dk_27 (dk_at dksX2_joyOf_0 2 rfl rfl)
theorem dX2_joyOf_3 : decode cX2_joyOf 3 = .ok (.invokevirtual 82, 3) := dk_182 0 82 (dk_at dksX2_joyOf_0 3 rfl rfl)
theorem dX2_joyOf_6 : decode cX2_joyOf 6 = .ok (.aload_n 0, 1) := dk_42 (dk_at dksX2_joyOf_0 6 rfl rfl)
theorem dX2_joyOf_7 : decode cX2_joyOf 7 = .ok (.getfield 11, 3) := dk_180 0 11 (dk_at dksX2_joyOf_0 7 rfl rfl)
theorem dX2_joyOf_10 : decode cX2_joyOf 10 = .ok (.iload_n 1, 1) := dk_27 (dk_at dksX2_joyOf_0 10 rfl rfl)
theorem dX2_joyOf_11 : decode cX2_joyOf 11 = .ok (.aaload, 1) := dk_50 (dk_at dksX2_joyOf_0 11 rfl rfl)
theorem dX2_joyOf_12 : decode cX2_joyOf 12 = .ok (.invokevirtual 86, 3) := dk_182 0 86 (dk_at dksX2_joyOf_0 12 rfl rfl)
theorem dX2_joyOf_15 : decode cX2_joyOf 15 = .ok (.aload_n 0, 1) := dk_42 (dk_at dksX2_joyOf_0 15 rfl rfl)
theorem dX2_joyOf_16 : decode cX2_joyOf 16 = .ok (.getfield 27, 3) := dk_180 0 27 (dk_at dksX2_joyOf_0 16 rfl rfl)
theorem dX2_joyOf_19 : decode cX2_joyOf 19 = .ok (.iload_n 2, 1) := dk_28 (dk_at dksX2_joyOf_0 19 rfl rfl)
theorem dX2_joyOf_20 : decode cX2_joyOf 20 = .ok (.iaload, 1) := dk_46 (dk_at dksX2_joyOf_0 20 rfl rfl)
theorem dX2_joyOf_21 : decode cX2_joyOf 21 = .ok (.imul, 1) := dk_104 (dk_at dksX2_joyOf_0 21 rfl rfl)
theorem dX2_joyOf_22 : decode cX2_joyOf 22 = .ok (.isub, 1) := dk_100 (dk_at dksX2_joyOf_0 22 rfl rfl)
theorem dX2_joyOf_23 : decode cX2_joyOf 23 = .ok (.invokestatic 89, 3) := dk_184 0 89 (dk_at dksX2_joyOf_1 0 rfl rfl)
theorem dX2_joyOf_26 : decode cX2_joyOf 26 = .ok (.ireturn, 1) := dk_172 (dk_at dksX2_joyOf_1 3 rfl rfl)
abbrev cX2_stills : ByteArray := prog_11_method_9_code
def yX2_stills : MethodName := ⟨RX2, "stills", "(I)I"⟩
def dkwX2_stills_0 : List UInt8 := [42, 180, 0, 17, 27, 46, 42, 180, 0, 11, 27, 50, 182, 0, 69, 184, 0, 73, 172]
abbrev dktX2_stills_0 : List UInt8 := dkwX2_stills_0 ++ []
theorem dksX2_stills_0 : cX2_stills.data.toList.drop 0 = dktX2_stills_0 := by decide +kernel
theorem dX2_stills_0 : decode cX2_stills 0 = .ok (.aload_n 0, 1) := dk_42 (dk_at dksX2_stills_0 0 rfl rfl)
theorem dX2_stills_1 : decode cX2_stills 1 = .ok (.getfield 17, 3) := dk_180 0 17 (dk_at dksX2_stills_0 1 rfl rfl)
theorem dX2_stills_4 : decode cX2_stills 4 = .ok (.iload_n 1, 1) := dk_27 (dk_at dksX2_stills_0 4 rfl rfl)
theorem dX2_stills_5 : decode cX2_stills 5 = .ok (.iaload, 1) := dk_46 (dk_at dksX2_stills_0 5 rfl rfl)
theorem dX2_stills_6 : decode cX2_stills 6 = .ok (.aload_n 0, 1) := dk_42 (dk_at dksX2_stills_0 6 rfl rfl)
theorem dX2_stills_7 : decode cX2_stills 7 = .ok (.getfield 11, 3) := dk_180 0 11 (dk_at dksX2_stills_0 7 rfl rfl)
theorem dX2_stills_10 : decode cX2_stills 10 = .ok (.iload_n 1, 1) := dk_27 (dk_at dksX2_stills_0 10 rfl rfl)
theorem dX2_stills_11 : decode cX2_stills 11 = .ok (.aaload, 1) := dk_50 (dk_at dksX2_stills_0 11 rfl rfl)
theorem dX2_stills_12 : decode cX2_stills 12 = .ok (.invokevirtual 69, 3) := dk_182 0 69 (dk_at dksX2_stills_0 12 rfl rfl)
theorem dX2_stills_15 : decode cX2_stills 15 = .ok (.invokestatic 73, 3) := dk_184 0 73 (dk_at dksX2_stills_0 15 rfl rfl)
theorem dX2_stills_18 : decode cX2_stills 18 = .ok (.ireturn, 1) := dk_172 (dk_at dksX2_stills_0 18 rfl rfl)
abbrev cX2_looks : ByteArray := prog_11_method_10_code
def yX2_looks : MethodName := ⟨RX2, "looks", "(I)I"⟩
def dkwX2_looks_0 : List UInt8 := [42, 180, 0, 21, 27, 46, 42, 180, 0, 11, 27, 50, 182, 0, 79, 184, 0, 73, 172]
abbrev dktX2_looks_0 : List UInt8 := dkwX2_looks_0 ++ []
theorem dksX2_looks_0 : cX2_looks.data.toList.drop 0 = dktX2_looks_0 := by decide +kernel
theorem dX2_looks_0 : decode cX2_looks 0 = .ok (.aload_n 0, 1) := dk_42 (dk_at dksX2_looks_0 0 rfl rfl)
theorem dX2_looks_1 : decode cX2_looks 1 = .ok (.getfield 21, 3) := dk_180 0 21 (dk_at dksX2_looks_0 1 rfl rfl)
theorem dX2_looks_4 : decode cX2_looks 4 = .ok (.iload_n 1, 1) := dk_27 (dk_at dksX2_looks_0 4 rfl rfl)
theorem dX2_looks_5 : decode cX2_looks 5 = .ok (.iaload, 1) := dk_46 (dk_at dksX2_looks_0 5 rfl rfl)
theorem dX2_looks_6 : decode cX2_looks 6 = .ok (.aload_n 0, 1) := dk_42 (dk_at dksX2_looks_0 6 rfl rfl)
theorem dX2_looks_7 : decode cX2_looks 7 = .ok (.getfield 11, 3) := dk_180 0 11 (dk_at dksX2_looks_0 7 rfl rfl)
theorem dX2_looks_10 : decode cX2_looks 10 = .ok (.iload_n 1, 1) := dk_27 (dk_at dksX2_looks_0 10 rfl rfl)
theorem dX2_looks_11 : decode cX2_looks 11 = .ok (.aaload, 1) := dk_50 (dk_at dksX2_looks_0 11 rfl rfl)
theorem dX2_looks_12 : decode cX2_looks 12 = .ok (.invokevirtual 79, 3) := dk_182 0 79 (dk_at dksX2_looks_0 12 rfl rfl)
theorem dX2_looks_15 : decode cX2_looks 15 = .ok (.invokestatic 73, 3) := dk_184 0 73 (dk_at dksX2_looks_0 15 rfl rfl)
theorem dX2_looks_18 : decode cX2_looks 18 = .ok (.ireturn, 1) := dk_172 (dk_at dksX2_looks_0 18 rfl rfl)
abbrev cX2_best : ByteArray := prog_11_method_14_code
def yX2_best : MethodName := ⟨RX2, "best", "()I"⟩
def dkwX2_best_3 : List UInt8 := [132, 2, 1, 167, 255, 188, 27, 172]
abbrev dktX2_best_3 : List UInt8 := dkwX2_best_3 ++ []
def dkwX2_best_2 : List UInt8 := [16, 10, 112, 182, 0, 98, 164, 0, 10, 16, 10, 28, 104, 29, 96, 60, 132, 3, 1, 167, 255, 204]
abbrev dktX2_best_2 : List UInt8 := dkwX2_best_2 ++ dktX2_best_3
def dkwX2_best_1 : List UInt8 := [28, 29, 182, 0, 101, 153, 0, 35, 27, 155, 0, 24, 42, 28, 29, 182, 0, 98, 42, 27, 16, 10, 108, 27]
abbrev dktX2_best_1 : List UInt8 := dkwX2_best_1 ++ dktX2_best_2
def dkwX2_best_0 : List UInt8 := [16, 252, 60, 3, 61, 28, 42, 180, 0, 40, 162, 0, 66, 3, 62, 29, 42, 180, 0, 40, 162, 0, 50, 42]
abbrev dktX2_best_0 : List UInt8 := dkwX2_best_0 ++ dktX2_best_1
theorem dksX2_best_0 : cX2_best.data.toList.drop 0 = dktX2_best_0 := by decide +kernel
theorem dksX2_best_1 : cX2_best.data.toList.drop 24 = dktX2_best_1 := dk_seg dksX2_best_0 24 rfl rfl
theorem dksX2_best_2 : cX2_best.data.toList.drop 48 = dktX2_best_2 := dk_seg dksX2_best_1 24 rfl rfl
theorem dksX2_best_3 : cX2_best.data.toList.drop 70 = dktX2_best_3 := dk_seg dksX2_best_2 22 rfl rfl
theorem dX2_best_0 : decode cX2_best 0 = .ok (.bipush (-4), 2) := dk_16 252 (dk_at dksX2_best_0 0 rfl rfl)
theorem dX2_best_2 : decode cX2_best 2 = .ok (.istore_n 1, 1) := dk_60 (dk_at dksX2_best_0 2 rfl rfl)
theorem dX2_best_3 : decode cX2_best 3 = .ok (.iconst 0, 1) := dk_3 (dk_at dksX2_best_0 3 rfl rfl)
theorem dX2_best_4 : decode cX2_best 4 = .ok (.istore_n 2, 1) := dk_61 (dk_at dksX2_best_0 4 rfl rfl)
theorem dX2_best_5 : decode cX2_best 5 = .ok (.iload_n 2, 1) := dk_28 (dk_at dksX2_best_0 5 rfl rfl)
theorem dX2_best_6 : decode cX2_best 6 = .ok (.aload_n 0, 1) := dk_42 (dk_at dksX2_best_0 6 rfl rfl)
theorem dX2_best_7 : decode cX2_best 7 = .ok (.getfield 40, 3) := dk_180 0 40 (dk_at dksX2_best_0 7 rfl rfl)
theorem dX2_best_10 : decode cX2_best 10 = .ok (.if_icmp .ge 66, 3) := dk_162 0 66 (dk_at dksX2_best_0 10 rfl rfl)
theorem dX2_best_13 : decode cX2_best 13 = .ok (.iconst 0, 1) := dk_3 (dk_at dksX2_best_0 13 rfl rfl)
theorem dX2_best_14 : decode cX2_best 14 = .ok (.istore_n 3, 1) := dk_62 (dk_at dksX2_best_0 14 rfl rfl)
theorem dX2_best_15 : decode cX2_best 15 = .ok (.iload_n 3, 1) := dk_29 (dk_at dksX2_best_0 15 rfl rfl)
theorem dX2_best_16 : decode cX2_best 16 = .ok (.aload_n 0, 1) := dk_42 (dk_at dksX2_best_0 16 rfl rfl)
theorem dX2_best_17 : decode cX2_best 17 = .ok (.getfield 40, 3) := dk_180 0 40 (dk_at dksX2_best_0 17 rfl rfl)
theorem dX2_best_20 : decode cX2_best 20 = .ok (.if_icmp .ge 50, 3) := dk_162 0 50 (dk_at dksX2_best_0 20 rfl rfl)
theorem dX2_best_23 : decode cX2_best 23 = .ok (.aload_n 0, 1) := dk_42 (dk_at dksX2_best_0 23 rfl rfl)
theorem dX2_best_24 : decode cX2_best 24 = .ok (.iload_n 2, 1) := dk_28 (dk_at dksX2_best_1 0 rfl rfl)
theorem dX2_best_25 : decode cX2_best 25 = .ok (.iload_n 3, 1) := dk_29 (dk_at dksX2_best_1 1 rfl rfl)
theorem dX2_best_26 : decode cX2_best 26 = .ok (.invokevirtual 101, 3) := dk_182 0 101 (dk_at dksX2_best_1 2 rfl rfl)
theorem dX2_best_29 : decode cX2_best 29 = .ok (.ifCond .eq 35, 3) := dk_153 0 35 (dk_at dksX2_best_1 5 rfl rfl)
theorem dX2_best_32 : decode cX2_best 32 = .ok (.iload_n 1, 1) := dk_27 (dk_at dksX2_best_1 8 rfl rfl)
theorem dX2_best_33 : decode cX2_best 33 = .ok (.ifCond .lt 24, 3) := dk_155 0 24 (dk_at dksX2_best_1 9 rfl rfl)
theorem dX2_best_36 : decode cX2_best 36 = .ok (.aload_n 0, 1) := dk_42 (dk_at dksX2_best_1 12 rfl rfl)
theorem dX2_best_37 : decode cX2_best 37 = .ok (.iload_n 2, 1) := dk_28 (dk_at dksX2_best_1 13 rfl rfl)
theorem dX2_best_38 : decode cX2_best 38 = .ok (.iload_n 3, 1) := dk_29 (dk_at dksX2_best_1 14 rfl rfl)
theorem dX2_best_39 : decode cX2_best 39 = .ok (.invokevirtual 98, 3) := dk_182 0 98 (dk_at dksX2_best_1 15 rfl rfl)
theorem dX2_best_42 : decode cX2_best 42 = .ok (.aload_n 0, 1) := dk_42 (dk_at dksX2_best_1 18 rfl rfl)
theorem dX2_best_43 : decode cX2_best 43 = .ok (.iload_n 1, 1) := dk_27 (dk_at dksX2_best_1 19 rfl rfl)
theorem dX2_best_44 : decode cX2_best 44 = .ok (.bipush 10, 2) := dk_16 10 (dk_at dksX2_best_1 20 rfl rfl)
theorem dX2_best_46 : decode cX2_best 46 = .ok (.idiv, 1) := dk_108 (dk_at dksX2_best_1 22 rfl rfl)
theorem dX2_best_47 : decode cX2_best 47 = .ok (.iload_n 1, 1) := dk_27 (dk_at dksX2_best_1 23 rfl rfl)
theorem dX2_best_48 : decode cX2_best 48 = .ok (.bipush 10, 2) := dk_16 10 (dk_at dksX2_best_2 0 rfl rfl)
theorem dX2_best_50 : decode cX2_best 50 = .ok (.irem, 1) := dk_112 (dk_at dksX2_best_2 2 rfl rfl)
theorem dX2_best_51 : decode cX2_best 51 = .ok (.invokevirtual 98, 3) := dk_182 0 98 (dk_at dksX2_best_2 3 rfl rfl)
theorem dX2_best_54 : decode cX2_best 54 = .ok (.if_icmp .le 10, 3) := dk_164 0 10 (dk_at dksX2_best_2 6 rfl rfl)
theorem dX2_best_57 : decode cX2_best 57 = .ok (.bipush 10, 2) := dk_16 10 (dk_at dksX2_best_2 9 rfl rfl)
theorem dX2_best_59 : decode cX2_best 59 = .ok (.iload_n 2, 1) := dk_28 (dk_at dksX2_best_2 11 rfl rfl)
theorem dX2_best_60 : decode cX2_best 60 = .ok (.imul, 1) := dk_104 (dk_at dksX2_best_2 12 rfl rfl)
theorem dX2_best_61 : decode cX2_best 61 = .ok (.iload_n 3, 1) := dk_29 (dk_at dksX2_best_2 13 rfl rfl)
theorem dX2_best_62 : decode cX2_best 62 = .ok (.iadd, 1) := dk_96 (dk_at dksX2_best_2 14 rfl rfl)
theorem dX2_best_63 : decode cX2_best 63 = .ok (.istore_n 1, 1) := dk_60 (dk_at dksX2_best_2 15 rfl rfl)
theorem dX2_best_64 : decode cX2_best 64 = .ok (.iinc 3 1, 3) := dk_132 3 1 (dk_at dksX2_best_2 16 rfl rfl)
theorem dX2_best_67 : decode cX2_best 67 = .ok (.goto (-52), 3) := dk_167 255 204 (dk_at dksX2_best_2 19 rfl rfl)
theorem dX2_best_70 : decode cX2_best 70 = .ok (.iinc 2 1, 3) := dk_132 2 1 (dk_at dksX2_best_3 0 rfl rfl)
theorem dX2_best_73 : decode cX2_best 73 = .ok (.goto (-68), 3) := dk_167 255 188 (dk_at dksX2_best_3 3 rfl rfl)
theorem dX2_best_76 : decode cX2_best 76 = .ok (.iload_n 1, 1) := dk_27 (dk_at dksX2_best_3 6 rfl rfl)
theorem dX2_best_77 : decode cX2_best 77 = .ok (.ireturn, 1) := dk_172 (dk_at dksX2_best_3 7 rfl rfl)
abbrev cX2_bestJoys : ByteArray := prog_11_method_15_code
def yX2_bestJoys : MethodName := ⟨RX2, "bestJoys", "()I"⟩
def dkwX2_bestJoys_1 : List UInt8 := [182, 0, 98, 172]
abbrev dktX2_bestJoys_1 : List UInt8 := dkwX2_bestJoys_1 ++ []
def dkwX2_bestJoys_0 : List UInt8 := [42, 182, 0, 104, 60, 27, 156, 0, 8, 16, 252, 167, 0, 15, 42, 27, 16, 10, 108, 27, 16, 10, 112]
abbrev dktX2_bestJoys_0 : List UInt8 := dkwX2_bestJoys_0 ++ dktX2_bestJoys_1
theorem dksX2_bestJoys_0 : cX2_bestJoys.data.toList.drop 0 = dktX2_bestJoys_0 := by decide +kernel
theorem dksX2_bestJoys_1 : cX2_bestJoys.data.toList.drop 23 = dktX2_bestJoys_1 := dk_seg dksX2_bestJoys_0 23 rfl rfl
theorem dX2_bestJoys_0 : decode cX2_bestJoys 0 = .ok (.aload_n 0, 1) := dk_42 (dk_at dksX2_bestJoys_0 0 rfl rfl)
theorem dX2_bestJoys_1 : decode cX2_bestJoys 1 = .ok (.invokevirtual 104, 3) := dk_182 0 104 (dk_at dksX2_bestJoys_0 1 rfl rfl)
theorem dX2_bestJoys_4 : decode cX2_bestJoys 4 = .ok (.istore_n 1, 1) := dk_60 (dk_at dksX2_bestJoys_0 4 rfl rfl)
theorem dX2_bestJoys_5 : decode cX2_bestJoys 5 = .ok (.iload_n 1, 1) := dk_27 (dk_at dksX2_bestJoys_0 5 rfl rfl)
theorem dX2_bestJoys_6 : decode cX2_bestJoys 6 = .ok (.ifCond .ge 8, 3) := dk_156 0 8 (dk_at dksX2_bestJoys_0 6 rfl rfl)
theorem dX2_bestJoys_9 : decode cX2_bestJoys 9 = .ok (.bipush (-4), 2) := dk_16 252 (dk_at dksX2_bestJoys_0 9 rfl rfl)
theorem dX2_bestJoys_11 : decode cX2_bestJoys 11 = .ok (.goto 15, 3) := dk_167 0 15 (dk_at dksX2_bestJoys_0 11 rfl rfl)
theorem dX2_bestJoys_14 : decode cX2_bestJoys 14 = .ok (.aload_n 0, 1) := dk_42 (dk_at dksX2_bestJoys_0 14 rfl rfl)
theorem dX2_bestJoys_15 : decode cX2_bestJoys 15 = .ok (.iload_n 1, 1) := dk_27 (dk_at dksX2_bestJoys_0 15 rfl rfl)
theorem dX2_bestJoys_16 : decode cX2_bestJoys 16 = .ok (.bipush 10, 2) := dk_16 10 (dk_at dksX2_bestJoys_0 16 rfl rfl)
theorem dX2_bestJoys_18 : decode cX2_bestJoys 18 = .ok (.idiv, 1) := dk_108 (dk_at dksX2_bestJoys_0 18 rfl rfl)
theorem dX2_bestJoys_19 : decode cX2_bestJoys 19 = .ok (.iload_n 1, 1) := dk_27 (dk_at dksX2_bestJoys_0 19 rfl rfl)
theorem dX2_bestJoys_20 : decode cX2_bestJoys 20 = .ok (.bipush 10, 2) := dk_16 10 (dk_at dksX2_bestJoys_0 20 rfl rfl)
theorem dX2_bestJoys_22 : decode cX2_bestJoys 22 = .ok (.irem, 1) := dk_112 (dk_at dksX2_bestJoys_0 22 rfl rfl)
theorem dX2_bestJoys_23 : decode cX2_bestJoys 23 = .ok (.invokevirtual 98, 3) := dk_182 0 98 (dk_at dksX2_bestJoys_1 0 rfl rfl)
theorem dX2_bestJoys_26 : decode cX2_bestJoys 26 = .ok (.ireturn, 1) := dk_172 (dk_at dksX2_bestJoys_1 3 rfl rfl)
abbrev cX2_init : ByteArray := prog_11_method_1_code
def yX2_init : MethodName := ⟨RX2, "<init>", "()V"⟩
def dkwX2_init_1 : List UInt8 := [188, 10, 181, 0, 21, 42, 16, 9, 188, 10, 181, 0, 24, 42, 16, 9, 188, 10, 181, 0, 27, 177]
abbrev dktX2_init_1 : List UInt8 := dkwX2_init_1 ++ []
def dkwX2_init_0 : List UInt8 := [42, 183, 0, 3, 42, 16, 9, 189, 0, 9, 181, 0, 11, 42, 16, 9, 188, 10, 181, 0, 17, 42, 16, 9]
abbrev dktX2_init_0 : List UInt8 := dkwX2_init_0 ++ dktX2_init_1
theorem dksX2_init_0 : cX2_init.data.toList.drop 0 = dktX2_init_0 := by decide +kernel
theorem dksX2_init_1 : cX2_init.data.toList.drop 24 = dktX2_init_1 := dk_seg dksX2_init_0 24 rfl rfl
theorem dX2_init_0 : decode cX2_init 0 = .ok (.aload_n 0, 1) := dk_42 (dk_at dksX2_init_0 0 rfl rfl)
theorem dX2_init_1 : decode cX2_init 1 = .ok (.invokespecial 3, 3) := dk_183 0 3 (dk_at dksX2_init_0 1 rfl rfl)
theorem dX2_init_4 : decode cX2_init 4 = .ok (.aload_n 0, 1) := dk_42 (dk_at dksX2_init_0 4 rfl rfl)
theorem dX2_init_5 : decode cX2_init 5 = .ok (.bipush 9, 2) := dk_16 9 (dk_at dksX2_init_0 5 rfl rfl)
theorem dX2_init_7 : decode cX2_init 7 = .ok (.anewarray 9, 3) := dk_189 0 9 (dk_at dksX2_init_0 7 rfl rfl)
theorem dX2_init_10 : decode cX2_init 10 = .ok (.putfield 11, 3) := dk_181 0 11 (dk_at dksX2_init_0 10 rfl rfl)
theorem dX2_init_13 : decode cX2_init 13 = .ok (.aload_n 0, 1) := dk_42 (dk_at dksX2_init_0 13 rfl rfl)
theorem dX2_init_14 : decode cX2_init 14 = .ok (.bipush 9, 2) := dk_16 9 (dk_at dksX2_init_0 14 rfl rfl)
theorem dX2_init_16 : decode cX2_init 16 = .ok (.newarray .int, 2) := dk_188_10 (dk_at dksX2_init_0 16 rfl rfl)
theorem dX2_init_18 : decode cX2_init 18 = .ok (.putfield 17, 3) := dk_181 0 17 (dk_at dksX2_init_0 18 rfl rfl)
theorem dX2_init_21 : decode cX2_init 21 = .ok (.aload_n 0, 1) := dk_42 (dk_at dksX2_init_0 21 rfl rfl)
theorem dX2_init_22 : decode cX2_init 22 = .ok (.bipush 9, 2) := dk_16 9 (dk_at dksX2_init_0 22 rfl rfl)
theorem dX2_init_24 : decode cX2_init 24 = .ok (.newarray .int, 2) := dk_188_10 (dk_at dksX2_init_1 0 rfl rfl)
theorem dX2_init_26 : decode cX2_init 26 = .ok (.putfield 21, 3) := dk_181 0 21 (dk_at dksX2_init_1 2 rfl rfl)
theorem dX2_init_29 : decode cX2_init 29 = .ok (.aload_n 0, 1) := dk_42 (dk_at dksX2_init_1 5 rfl rfl)
theorem dX2_init_30 : decode cX2_init 30 = .ok (.bipush 9, 2) := dk_16 9 (dk_at dksX2_init_1 6 rfl rfl)
theorem dX2_init_32 : decode cX2_init 32 = .ok (.newarray .int, 2) := dk_188_10 (dk_at dksX2_init_1 8 rfl rfl)
theorem dX2_init_34 : decode cX2_init 34 = .ok (.putfield 24, 3) := dk_181 0 24 (dk_at dksX2_init_1 10 rfl rfl)
theorem dX2_init_37 : decode cX2_init 37 = .ok (.aload_n 0, 1) := dk_42 (dk_at dksX2_init_1 13 rfl rfl)
theorem dX2_init_38 : decode cX2_init 38 = .ok (.bipush 9, 2) := dk_16 9 (dk_at dksX2_init_1 14 rfl rfl)
theorem dX2_init_40 : decode cX2_init 40 = .ok (.newarray .int, 2) := dk_188_10 (dk_at dksX2_init_1 16 rfl rfl)
theorem dX2_init_42 : decode cX2_init 42 = .ok (.putfield 27, 3) := dk_181 0 27 (dk_at dksX2_init_1 18 rfl rfl)
theorem dX2_init_45 : decode cX2_init 45 = .ok (.return_, 1) := dk_177 (dk_at dksX2_init_1 21 rfl rfl)
theorem q40 : (Jvm.Cond.initialized "CakesToTheWatched$Fete") ∈ lw_all := lw_g (lw_at lw_m1 2 rfl) rfl
theorem q268 : (Jvm.Cond.instanceMethod ({ cls := "CakesToTheWatched$Fete", name := "takes", desc := "(LCakesToTheWatched$Fete;)V" } : Jvm.MethodName)) ∈ lw_all := lw_g (lw_at lw_m1 230 rfl) rfl
theorem q269 : (Jvm.Cond.selects "CakesToTheWatched$Fete" ({ cls := "CakesToTheWatched$Fete", name := "takes", desc := "(LCakesToTheWatched$Fete;)V" } : Jvm.MethodName) ({ cls := "CakesToTheWatched$Fete", name := "takes", desc := "(LCakesToTheWatched$Fete;)V" } : Jvm.MethodName)) ∈ lw_all := lw_g (lw_at lw_m1 231 rfl) rfl
theorem q270 : (Jvm.Cond.code ({ cls := "CakesToTheWatched$Fete", name := "takes", desc := "(LCakesToTheWatched$Fete;)V" } : Jvm.MethodName) prog_11_method_3_code (2 : Nat) (Option.none : Option Jvm.ClassFile.FieldType)) ∈ lw_all := lw_g (lw_at lw_m1 232 rfl) rfl
theorem q271 : (Jvm.Cond.methodLink "CakesToTheWatched$Fete" (30 : Nat) ({ cls := "java/lang/System", name := "arraycopy", desc := "(Ljava/lang/Object;ILjava/lang/Object;II)V" } : Jvm.MethodName)) ∈ lw_all := lw_g (lw_at lw_m1 233 rfl) rfl
theorem q274 : (Jvm.Cond.methodLink "CakesToTheWatched$Fete" (36 : Nat) ({ cls := "CakesToTheWatched$Fete", name := "copies", desc := "([I[I)V" } : Jvm.MethodName)) ∈ lw_all := lw_g (lw_at lw_m1 236 rfl) rfl
theorem q275 : (Jvm.Cond.static ({ cls := "CakesToTheWatched$Fete", name := "copies", desc := "([I[I)V" } : Jvm.MethodName)) ∈ lw_all := lw_g (lw_at lw_m1 237 rfl) rfl
theorem q276 : (Jvm.Cond.code ({ cls := "CakesToTheWatched$Fete", name := "copies", desc := "([I[I)V" } : Jvm.MethodName) prog_11_method_2_code (2 : Nat) (Option.none : Option Jvm.ClassFile.FieldType)) ∈ lw_all := lw_g (lw_at lw_m1 238 rfl) rfl
theorem q361 : (Jvm.Cond.instanceMethod ({ cls := "CakesToTheWatched$Fete", name := "comes", desc := "(LCakesToTheWatched$Guest;II)I" } : Jvm.MethodName)) ∈ lw_all := lw_g (lw_at lw_m2 83 rfl) rfl
theorem q362 : (Jvm.Cond.selects "CakesToTheWatched$Fete" ({ cls := "CakesToTheWatched$Fete", name := "comes", desc := "(LCakesToTheWatched$Guest;II)I" } : Jvm.MethodName) ({ cls := "CakesToTheWatched$Fete", name := "comes", desc := "(LCakesToTheWatched$Guest;II)I" } : Jvm.MethodName)) ∈ lw_all := lw_g (lw_at lw_m2 84 rfl) rfl
theorem q363 : (Jvm.Cond.code ({ cls := "CakesToTheWatched$Fete", name := "comes", desc := "(LCakesToTheWatched$Guest;II)I" } : Jvm.MethodName) prog_11_method_6_code (4 : Nat) (Option.some Jvm.ClassFile.FieldType.int)) ∈ lw_all := lw_g (lw_at lw_m2 85 rfl) rfl
theorem q368 : (Jvm.Cond.instanceMethod ({ cls := "CakesToTheWatched$Fete", name := "canEat", desc := "(II)Z" } : Jvm.MethodName)) ∈ lw_all := lw_g (lw_at lw_m2 90 rfl) rfl
theorem q369 : (Jvm.Cond.selects "CakesToTheWatched$Fete" ({ cls := "CakesToTheWatched$Fete", name := "canEat", desc := "(II)Z" } : Jvm.MethodName) ({ cls := "CakesToTheWatched$Fete", name := "canEat", desc := "(II)Z" } : Jvm.MethodName)) ∈ lw_all := lw_g (lw_at lw_m2 91 rfl) rfl
theorem q370 : (Jvm.Cond.code ({ cls := "CakesToTheWatched$Fete", name := "canEat", desc := "(II)Z" } : Jvm.MethodName) prog_11_method_8_code (3 : Nat) (Option.some Jvm.ClassFile.FieldType.boolean)) ∈ lw_all := lw_g (lw_at lw_m2 92 rfl) rfl
theorem q371 : (Jvm.Cond.methodLink "CakesToTheWatched$Fete" (62 : Nat) ({ cls := "CakesToTheWatched$Fete", name := "areTwo", desc := "(II)Z" } : Jvm.MethodName)) ∈ lw_all := lw_g (lw_at lw_m2 93 rfl) rfl
theorem q372 : (Jvm.Cond.instanceMethod ({ cls := "CakesToTheWatched$Fete", name := "areTwo", desc := "(II)Z" } : Jvm.MethodName)) ∈ lw_all := lw_g (lw_at lw_m2 94 rfl) rfl
theorem q373 : (Jvm.Cond.selects "CakesToTheWatched$Fete" ({ cls := "CakesToTheWatched$Fete", name := "areTwo", desc := "(II)Z" } : Jvm.MethodName) ({ cls := "CakesToTheWatched$Fete", name := "areTwo", desc := "(II)Z" } : Jvm.MethodName)) ∈ lw_all := lw_g (lw_at lw_m2 95 rfl) rfl
theorem q374 : (Jvm.Cond.code ({ cls := "CakesToTheWatched$Fete", name := "areTwo", desc := "(II)Z" } : Jvm.MethodName) prog_11_method_5_code (3 : Nat) (Option.some Jvm.ClassFile.FieldType.boolean)) ∈ lw_all := lw_g (lw_at lw_m2 96 rfl) rfl
theorem q375 : (Jvm.Cond.methodLink "CakesToTheWatched$Fete" (54 : Nat) ({ cls := "CakesToTheWatched$Fete", name := "isOne", desc := "(I)Z" } : Jvm.MethodName)) ∈ lw_all := lw_g (lw_at lw_m2 97 rfl) rfl
theorem q376 : (Jvm.Cond.instanceMethod ({ cls := "CakesToTheWatched$Fete", name := "isOne", desc := "(I)Z" } : Jvm.MethodName)) ∈ lw_all := lw_g (lw_at lw_m2 98 rfl) rfl
theorem q377 : (Jvm.Cond.selects "CakesToTheWatched$Fete" ({ cls := "CakesToTheWatched$Fete", name := "isOne", desc := "(I)Z" } : Jvm.MethodName) ({ cls := "CakesToTheWatched$Fete", name := "isOne", desc := "(I)Z" } : Jvm.MethodName)) ∈ lw_all := lw_g (lw_at lw_m2 99 rfl) rfl
theorem q378 : (Jvm.Cond.code ({ cls := "CakesToTheWatched$Fete", name := "isOne", desc := "(I)Z" } : Jvm.MethodName) prog_11_method_4_code (2 : Nat) (Option.some Jvm.ClassFile.FieldType.boolean)) ∈ lw_all := lw_g (lw_at lw_m2 100 rfl) rfl
theorem q379 : (Jvm.Cond.methodLinkNest "CakesToTheWatched$Fete" (50 : Nat) ({ cls := "CakesToTheWatched", name := "isIn", desc := "(III)Z" } : Jvm.MethodName) "CakesToTheWatched") ∈ lw_tbl := lw_at lw_m2 101 rfl
theorem q380 : (Jvm.Cond.methodLink "CakesToTheWatched$Fete" (66 : Nat) ({ cls := "CakesToTheWatched$Fete", name := "canLook", desc := "(I)Z" } : Jvm.MethodName)) ∈ lw_all := lw_g (lw_at lw_m2 102 rfl) rfl
theorem q381 : (Jvm.Cond.instanceMethod ({ cls := "CakesToTheWatched$Fete", name := "canLook", desc := "(I)Z" } : Jvm.MethodName)) ∈ lw_all := lw_g (lw_at lw_m2 103 rfl) rfl
theorem q382 : (Jvm.Cond.selects "CakesToTheWatched$Fete" ({ cls := "CakesToTheWatched$Fete", name := "canLook", desc := "(I)Z" } : Jvm.MethodName) ({ cls := "CakesToTheWatched$Fete", name := "canLook", desc := "(I)Z" } : Jvm.MethodName)) ∈ lw_all := lw_g (lw_at lw_m2 104 rfl) rfl
theorem q383 : (Jvm.Cond.code ({ cls := "CakesToTheWatched$Fete", name := "canLook", desc := "(I)Z" } : Jvm.MethodName) prog_11_method_7_code (2 : Nat) (Option.some Jvm.ClassFile.FieldType.boolean)) ∈ lw_all := lw_g (lw_at lw_m2 105 rfl) rfl
theorem q399 : (Jvm.Cond.instanceMethod ({ cls := "CakesToTheWatched$Fete", name := "eats", desc := "(II)I" } : Jvm.MethodName)) ∈ lw_all := lw_g (lw_at lw_m2 121 rfl) rfl
theorem q400 : (Jvm.Cond.selects "CakesToTheWatched$Fete" ({ cls := "CakesToTheWatched$Fete", name := "eats", desc := "(II)I" } : Jvm.MethodName) ({ cls := "CakesToTheWatched$Fete", name := "eats", desc := "(II)I" } : Jvm.MethodName)) ∈ lw_all := lw_g (lw_at lw_m2 122 rfl) rfl
theorem q401 : (Jvm.Cond.code ({ cls := "CakesToTheWatched$Fete", name := "eats", desc := "(II)I" } : Jvm.MethodName) prog_11_method_13_code (4 : Nat) (Option.some Jvm.ClassFile.FieldType.int)) ∈ lw_all := lw_g (lw_at lw_m2 123 rfl) rfl
theorem q402 : (Jvm.Cond.methodLink "CakesToTheWatched$Fete" (98 : Nat) ({ cls := "CakesToTheWatched$Fete", name := "joys", desc := "(II)I" } : Jvm.MethodName)) ∈ lw_all := lw_g (lw_at lw_m2 124 rfl) rfl
theorem q403 : (Jvm.Cond.instanceMethod ({ cls := "CakesToTheWatched$Fete", name := "joys", desc := "(II)I" } : Jvm.MethodName)) ∈ lw_all := lw_g (lw_at lw_m2 125 rfl) rfl
theorem q404 : (Jvm.Cond.selects "CakesToTheWatched$Fete" ({ cls := "CakesToTheWatched$Fete", name := "joys", desc := "(II)I" } : Jvm.MethodName) ({ cls := "CakesToTheWatched$Fete", name := "joys", desc := "(II)I" } : Jvm.MethodName)) ∈ lw_all := lw_g (lw_at lw_m2 126 rfl) rfl
theorem q405 : (Jvm.Cond.code ({ cls := "CakesToTheWatched$Fete", name := "joys", desc := "(II)I" } : Jvm.MethodName) prog_11_method_12_code (3 : Nat) (Option.some Jvm.ClassFile.FieldType.int)) ∈ lw_all := lw_g (lw_at lw_m2 127 rfl) rfl
theorem q406 : (Jvm.Cond.methodLink "CakesToTheWatched$Fete" (92 : Nat) ({ cls := "CakesToTheWatched$Fete", name := "joyOf", desc := "(II)I" } : Jvm.MethodName)) ∈ lw_all := lw_g (lw_at lw_m2 128 rfl) rfl
theorem q407 : (Jvm.Cond.instanceMethod ({ cls := "CakesToTheWatched$Fete", name := "joyOf", desc := "(II)I" } : Jvm.MethodName)) ∈ lw_all := lw_g (lw_at lw_m2 129 rfl) rfl
theorem q408 : (Jvm.Cond.selects "CakesToTheWatched$Fete" ({ cls := "CakesToTheWatched$Fete", name := "joyOf", desc := "(II)I" } : Jvm.MethodName) ({ cls := "CakesToTheWatched$Fete", name := "joyOf", desc := "(II)I" } : Jvm.MethodName)) ∈ lw_all := lw_g (lw_at lw_m2 130 rfl) rfl
theorem q409 : (Jvm.Cond.code ({ cls := "CakesToTheWatched$Fete", name := "joyOf", desc := "(II)I" } : Jvm.MethodName) prog_11_method_11_code (3 : Nat) (Option.some Jvm.ClassFile.FieldType.int)) ∈ lw_all := lw_g (lw_at lw_m2 131 rfl) rfl
theorem q410 : (Jvm.Cond.methodLink "CakesToTheWatched$Fete" (82 : Nat) ({ cls := "CakesToTheWatched$Fete", name := "stills", desc := "(I)I" } : Jvm.MethodName)) ∈ lw_all := lw_g (lw_at lw_m2 132 rfl) rfl
theorem q411 : (Jvm.Cond.instanceMethod ({ cls := "CakesToTheWatched$Fete", name := "stills", desc := "(I)I" } : Jvm.MethodName)) ∈ lw_all := lw_g (lw_at lw_m2 133 rfl) rfl
theorem q412 : (Jvm.Cond.selects "CakesToTheWatched$Fete" ({ cls := "CakesToTheWatched$Fete", name := "stills", desc := "(I)I" } : Jvm.MethodName) ({ cls := "CakesToTheWatched$Fete", name := "stills", desc := "(I)I" } : Jvm.MethodName)) ∈ lw_all := lw_g (lw_at lw_m2 134 rfl) rfl
theorem q413 : (Jvm.Cond.code ({ cls := "CakesToTheWatched$Fete", name := "stills", desc := "(I)I" } : Jvm.MethodName) prog_11_method_9_code (2 : Nat) (Option.some Jvm.ClassFile.FieldType.int)) ∈ lw_all := lw_g (lw_at lw_m2 135 rfl) rfl
theorem q440 : (Jvm.Cond.methodLink "CakesToTheWatched$Fete" (73 : Nat) ({ cls := "java/lang/Math", name := "min", desc := "(II)I" } : Jvm.MethodName)) ∈ lw_all := lw_g (lw_at lw_m2 162 rfl) rfl
theorem q462 : (Jvm.Cond.methodLink "CakesToTheWatched$Fete" (89 : Nat) ({ cls := "java/lang/Math", name := "max", desc := "(II)I" } : Jvm.MethodName)) ∈ lw_all := lw_g (lw_at lw_m2 184 rfl) rfl
theorem q465 : (Jvm.Cond.methodLink "CakesToTheWatched$Fete" (95 : Nat) ({ cls := "CakesToTheWatched$Fete", name := "looks", desc := "(I)I" } : Jvm.MethodName)) ∈ lw_all := lw_g (lw_at lw_m2 187 rfl) rfl
theorem q466 : (Jvm.Cond.instanceMethod ({ cls := "CakesToTheWatched$Fete", name := "looks", desc := "(I)I" } : Jvm.MethodName)) ∈ lw_all := lw_g (lw_at lw_m2 188 rfl) rfl
theorem q467 : (Jvm.Cond.selects "CakesToTheWatched$Fete" ({ cls := "CakesToTheWatched$Fete", name := "looks", desc := "(I)I" } : Jvm.MethodName) ({ cls := "CakesToTheWatched$Fete", name := "looks", desc := "(I)I" } : Jvm.MethodName)) ∈ lw_all := lw_g (lw_at lw_m2 189 rfl) rfl
theorem q468 : (Jvm.Cond.code ({ cls := "CakesToTheWatched$Fete", name := "looks", desc := "(I)I" } : Jvm.MethodName) prog_11_method_10_code (2 : Nat) (Option.some Jvm.ClassFile.FieldType.int)) ∈ lw_all := lw_g (lw_at lw_m2 190 rfl) rfl
theorem q562 : (Jvm.Cond.instanceMethod ({ cls := "CakesToTheWatched$Fete", name := "best", desc := "()I" } : Jvm.MethodName)) ∈ lw_all := lw_g (lw_at lw_m3 44 rfl) rfl
theorem q563 : (Jvm.Cond.selects "CakesToTheWatched$Fete" ({ cls := "CakesToTheWatched$Fete", name := "best", desc := "()I" } : Jvm.MethodName) ({ cls := "CakesToTheWatched$Fete", name := "best", desc := "()I" } : Jvm.MethodName)) ∈ lw_all := lw_g (lw_at lw_m3 45 rfl) rfl
theorem q564 : (Jvm.Cond.code ({ cls := "CakesToTheWatched$Fete", name := "best", desc := "()I" } : Jvm.MethodName) prog_11_method_14_code (4 : Nat) (Option.some Jvm.ClassFile.FieldType.int)) ∈ lw_all := lw_g (lw_at lw_m3 46 rfl) rfl
theorem q565 : (Jvm.Cond.methodLink "CakesToTheWatched$Fete" (101 : Nat) ({ cls := "CakesToTheWatched$Fete", name := "canEat", desc := "(II)Z" } : Jvm.MethodName)) ∈ lw_all := lw_g (lw_at lw_m3 47 rfl) rfl
theorem q567 : (Jvm.Cond.instanceMethod ({ cls := "CakesToTheWatched$Fete", name := "bestJoys", desc := "()I" } : Jvm.MethodName)) ∈ lw_all := lw_g (lw_at lw_m3 49 rfl) rfl
theorem q568 : (Jvm.Cond.selects "CakesToTheWatched$Fete" ({ cls := "CakesToTheWatched$Fete", name := "bestJoys", desc := "()I" } : Jvm.MethodName) ({ cls := "CakesToTheWatched$Fete", name := "bestJoys", desc := "()I" } : Jvm.MethodName)) ∈ lw_all := lw_g (lw_at lw_m3 50 rfl) rfl
theorem q569 : (Jvm.Cond.code ({ cls := "CakesToTheWatched$Fete", name := "bestJoys", desc := "()I" } : Jvm.MethodName) prog_11_method_15_code (2 : Nat) (Option.some Jvm.ClassFile.FieldType.int)) ∈ lw_all := lw_g (lw_at lw_m3 51 rfl) rfl
theorem q570 : (Jvm.Cond.methodLink "CakesToTheWatched$Fete" (104 : Nat) ({ cls := "CakesToTheWatched$Fete", name := "best", desc := "()I" } : Jvm.MethodName)) ∈ lw_all := lw_g (lw_at lw_m3 52 rfl) rfl
theorem q785 : (Jvm.Cond.instantiable "CakesToTheWatched$Fete" (8 : Nat)) ∈ lw_all := lw_g (lw_at lw_m4 27 rfl) rfl
theorem q787 : (Jvm.Cond.instanceMethod ({ cls := "CakesToTheWatched$Fete", name := "<init>", desc := "()V" } : Jvm.MethodName)) ∈ lw_all := lw_g (lw_at lw_m4 29 rfl) rfl
theorem q788 : (Jvm.Cond.code ({ cls := "CakesToTheWatched$Fete", name := "<init>", desc := "()V" } : Jvm.MethodName) prog_11_method_1_code (1 : Nat) (Option.none : Option Jvm.ClassFile.FieldType)) ∈ lw_all := lw_g (lw_at lw_m4 30 rfl) rfl
theorem q789 : (Jvm.Cond.methodLink "CakesToTheWatched$Fete" (3 : Nat) ({ cls := "java/lang/Object", name := "<init>", desc := "()V" } : Jvm.MethodName)) ∈ lw_all := lw_g (lw_at lw_m4 31 rfl) rfl
theorem q790 : (Jvm.Cond.classLink "CakesToTheWatched$Fete" (9 : Nat) "CakesToTheWatched$Guest") ∈ lw_all := lw_g (lw_at lw_m4 32 rfl) rfl
theorem q792 : (Jvm.Cond.fieldLink "CakesToTheWatched$Fete" (11 : Nat) "CakesToTheWatched$Fete" "who" "[LCakesToTheWatched$Guest;") ∈ lw_all := lw_g (lw_at lw_m4 34 rfl) rfl
theorem q794 : (Jvm.Cond.fieldLink "CakesToTheWatched$Fete" (17 : Nat) "CakesToTheWatched$Fete" "hunger" "[I") ∈ lw_all := lw_g (lw_at lw_m4 36 rfl) rfl
theorem q796 : (Jvm.Cond.fieldLink "CakesToTheWatched$Fete" (21 : Nat) "CakesToTheWatched$Fete" "wish" "[I") ∈ lw_all := lw_g (lw_at lw_m4 38 rfl) rfl
theorem q798 : (Jvm.Cond.fieldLink "CakesToTheWatched$Fete" (24 : Nat) "CakesToTheWatched$Fete" "eaten" "[I") ∈ lw_all := lw_g (lw_at lw_m4 40 rfl) rfl
theorem q800 : (Jvm.Cond.fieldLink "CakesToTheWatched$Fete" (27 : Nat) "CakesToTheWatched$Fete" "watched" "[I") ∈ lw_all := lw_g (lw_at lw_m4 42 rfl) rfl
theorem q802 : (Jvm.Cond.fieldLink "CakesToTheWatched$Fete" (40 : Nat) "CakesToTheWatched$Fete" "people" "I") ∈ lw_all := lw_g (lw_at lw_m4 44 rfl) rfl
theorem q804 : (Jvm.Cond.fieldLink "CakesToTheWatched$Fete" (44 : Nat) "CakesToTheWatched$Fete" "slices" "I") ∈ lw_all := lw_g (lw_at lw_m4 46 rfl) rfl
theorem q806 : (Jvm.Cond.fieldLink "CakesToTheWatched$Fete" (47 : Nat) "CakesToTheWatched$Fete" "step" "I") ∈ lw_all := lw_g (lw_at lw_m4 48 rfl) rfl
theorem q808 : (Jvm.Cond.laysFinal "CakesToTheWatched$Fete" "CakesToTheWatched$Fete" "who" "[LCakesToTheWatched$Guest;") ∈ lw_all := lw_g (lw_at lw_m4 50 rfl) rfl
theorem q809 : (Jvm.Cond.soleField "CakesToTheWatched$Fete" "who") ∈ lw_all := lw_g (lw_at lw_m4 51 rfl) rfl
theorem q810 : (Jvm.Cond.laysFinal "CakesToTheWatched$Fete" "CakesToTheWatched$Fete" "hunger" "[I") ∈ lw_all := lw_g (lw_at lw_m4 52 rfl) rfl
theorem q811 : (Jvm.Cond.soleField "CakesToTheWatched$Fete" "hunger") ∈ lw_all := lw_g (lw_at lw_m4 53 rfl) rfl
theorem q812 : (Jvm.Cond.laysFinal "CakesToTheWatched$Fete" "CakesToTheWatched$Fete" "wish" "[I") ∈ lw_all := lw_g (lw_at lw_m4 54 rfl) rfl
theorem q813 : (Jvm.Cond.soleField "CakesToTheWatched$Fete" "wish") ∈ lw_all := lw_g (lw_at lw_m4 55 rfl) rfl
theorem q814 : (Jvm.Cond.laysFinal "CakesToTheWatched$Fete" "CakesToTheWatched$Fete" "eaten" "[I") ∈ lw_all := lw_g (lw_at lw_m4 56 rfl) rfl
theorem q815 : (Jvm.Cond.soleField "CakesToTheWatched$Fete" "eaten") ∈ lw_all := lw_g (lw_at lw_m4 57 rfl) rfl
theorem q816 : (Jvm.Cond.laysFinal "CakesToTheWatched$Fete" "CakesToTheWatched$Fete" "watched" "[I") ∈ lw_all := lw_g (lw_at lw_m4 58 rfl) rfl
theorem q817 : (Jvm.Cond.soleField "CakesToTheWatched$Fete" "watched") ∈ lw_all := lw_g (lw_at lw_m4 59 rfl) rfl
theorem q818 : (Jvm.Cond.lays "CakesToTheWatched$Fete" "CakesToTheWatched$Fete" "people" "I") ∈ lw_all := lw_g (lw_at lw_m4 60 rfl) rfl
theorem q819 : (Jvm.Cond.soleField "CakesToTheWatched$Fete" "people") ∈ lw_all := lw_g (lw_at lw_m4 61 rfl) rfl
theorem q820 : (Jvm.Cond.lays "CakesToTheWatched$Fete" "CakesToTheWatched$Fete" "slices" "I") ∈ lw_all := lw_g (lw_at lw_m4 62 rfl) rfl
theorem q821 : (Jvm.Cond.soleField "CakesToTheWatched$Fete" "slices") ∈ lw_all := lw_g (lw_at lw_m4 63 rfl) rfl
theorem q822 : (Jvm.Cond.lays "CakesToTheWatched$Fete" "CakesToTheWatched$Fete" "step" "I") ∈ lw_all := lw_g (lw_at lw_m4 64 rfl) rfl
theorem q823 : (Jvm.Cond.soleField "CakesToTheWatched$Fete" "step") ∈ lw_all := lw_g (lw_at lw_m4 65 rfl) rfl
theorem q824 : (Jvm.Cond.superclass "CakesToTheWatched$Fete" "java/lang/Object") ∈ lw_all := lw_g (lw_at lw_m4 66 rfl) rfl
theorem in_X2 : ∀ w ∈ wsX20, w ∈ lw_all := lw_in wsX20 [808, 810, 812, 814, 816, 818, 820, 822] (by decide +kernel) (by decide +kernel)

/-! CakesToTheWatched$Shelf -/
set_option maxRecDepth 100000
def RX3 : String := "CakesToTheWatched$Shelf"
def TX3 : u_T := fun k => match k with
  | _ => ("CakesToTheWatched$Shelf", "held", "Ljava/lang/Object;", false)
def tyX3 : Nat → FieldType := fun k => match k with
  | _ => .object "java/lang/Object"
abbrev wsX30 : List Cond := u_ws RX3 TX3 1
theorem nmX3 : ∀ a, a < 1 → ∀ b, b < 1 → a ≠ b → (TX3 a).2.1 ≠ (TX3 b).2.1 := by decide +kernel
theorem tyX3_ok : ∀ k, k < 1 → parseFieldDescriptor (TX3 k).2.2.1 = some (tyX3 k) := by decide +kernel
abbrev cX3_init : ByteArray := prog_15_method_1_code
def yX3_init : MethodName := ⟨RX3, "<init>", "()V"⟩
theorem dX3_init_0 : decode cX3_init 0 = .ok (.aload_n 0, 1) := by decide +kernel
theorem dX3_init_1 : decode cX3_init 1 = .ok (.invokespecial 1, 3) := by decide +kernel
theorem dX3_init_4 : decode cX3_init 4 = .ok (.return_, 1) := by decide +kernel
theorem q41 : (Jvm.Cond.initialized "CakesToTheWatched$Shelf") ∈ lw_all := lw_g (lw_at lw_m1 3 rfl) rfl
theorem q829 : (Jvm.Cond.instantiable "CakesToTheWatched$Shelf" (1 : Nat)) ∈ lw_all := lw_g (lw_at lw_m4 71 rfl) rfl
theorem q831 : (Jvm.Cond.instanceMethod ({ cls := "CakesToTheWatched$Shelf", name := "<init>", desc := "()V" } : Jvm.MethodName)) ∈ lw_all := lw_g (lw_at lw_m4 73 rfl) rfl
theorem q832 : (Jvm.Cond.code ({ cls := "CakesToTheWatched$Shelf", name := "<init>", desc := "()V" } : Jvm.MethodName) prog_15_method_1_code (1 : Nat) (Option.none : Option Jvm.ClassFile.FieldType)) ∈ lw_all := lw_g (lw_at lw_m4 74 rfl) rfl
theorem q833 : (Jvm.Cond.methodLink "CakesToTheWatched$Shelf" (1 : Nat) ({ cls := "java/lang/Object", name := "<init>", desc := "()V" } : Jvm.MethodName)) ∈ lw_all := lw_g (lw_at lw_m4 75 rfl) rfl
theorem q835 : (Jvm.Cond.lays "CakesToTheWatched$Shelf" "CakesToTheWatched$Shelf" "held" "Ljava/lang/Object;") ∈ lw_all := lw_g (lw_at lw_m4 77 rfl) rfl
theorem q836 : (Jvm.Cond.soleField "CakesToTheWatched$Shelf" "held") ∈ lw_all := lw_g (lw_at lw_m4 78 rfl) rfl
theorem q837 : (Jvm.Cond.superclass "CakesToTheWatched$Shelf" "java/lang/Object") ∈ lw_all := lw_g (lw_at lw_m4 79 rfl) rfl
theorem in_X3 : ∀ w ∈ wsX30, w ∈ lw_all := lw_in wsX30 [835] (by decide +kernel) (by decide +kernel)

/-! CakesToTheWatched$FeteReader -/
set_option maxRecDepth 100000
def RX5 : String := "CakesToTheWatched$FeteReader"
def TX5 : u_T := fun k => match k with
  | 0 => ("CakesToTheWatched$FeteReader", "text", "[B", true)
  | _ => ("CakesToTheWatched$FeteReader", "at", "I", false)
def tyX5 : Nat → FieldType := fun k => match k with
  | 0 => .array .byte
  | _ => .int
abbrev wsX50 : List Cond := u_ws RX5 TX5 2
theorem nmX5 : ∀ a, a < 2 → ∀ b, b < 2 → a ≠ b → (TX5 a).2.1 ≠ (TX5 b).2.1 := by decide +kernel
theorem tyX5_ok : ∀ k, k < 2 → parseFieldDescriptor (TX5 k).2.2.1 = some (tyX5 k) := by decide +kernel
abbrev cX5_init : ByteArray := prog_12_method_1_code
def yX5_init : MethodName := ⟨RX5, "<init>", "([B)V"⟩
def dkwX5_init_0 : List UInt8 := [42, 183, 0, 3, 42, 43, 181, 0, 9, 177]
abbrev dktX5_init_0 : List UInt8 := dkwX5_init_0 ++ []
theorem dksX5_init_0 : cX5_init.data.toList.drop 0 = dktX5_init_0 := by decide +kernel
theorem dX5_init_0 : decode cX5_init 0 = .ok (.aload_n 0, 1) := dk_42 (dk_at dksX5_init_0 0 rfl rfl)
theorem dX5_init_1 : decode cX5_init 1 = .ok (.invokespecial 3, 3) := dk_183 0 3 (dk_at dksX5_init_0 1 rfl rfl)
theorem dX5_init_4 : decode cX5_init 4 = .ok (.aload_n 0, 1) := dk_42 (dk_at dksX5_init_0 4 rfl rfl)
theorem dX5_init_5 : decode cX5_init 5 = .ok (.aload_n 1, 1) := dk_43 (dk_at dksX5_init_0 5 rfl rfl)
theorem dX5_init_6 : decode cX5_init 6 = .ok (.putfield 9, 3) := dk_181 0 9 (dk_at dksX5_init_0 6 rfl rfl)
theorem dX5_init_9 : decode cX5_init 9 = .ok (.return_, 1) := dk_177 (dk_at dksX5_init_0 9 rfl rfl)
abbrev cX5_whole : ByteArray := prog_12_method_7_code
def yX5_whole : MethodName := ⟨RX5, "whole", "([LCakesToTheWatched$Told;)I"⟩
def dkwX5_whole_1 : List UInt8 := [28, 172]
abbrev dktX5_whole_1 : List UInt8 := dkwX5_whole_1 ++ []
def dkwX5_whole_0 : List UInt8 := [3, 61, 43, 28, 42, 182, 0, 55, 83, 132, 2, 1, 42, 180, 0, 15, 42, 180, 0, 9, 190, 161, 255, 237]
abbrev dktX5_whole_0 : List UInt8 := dkwX5_whole_0 ++ dktX5_whole_1
theorem dksX5_whole_0 : cX5_whole.data.toList.drop 0 = dktX5_whole_0 := by decide +kernel
theorem dksX5_whole_1 : cX5_whole.data.toList.drop 24 = dktX5_whole_1 := dk_seg dksX5_whole_0 24 rfl rfl
theorem dX5_whole_0 : decode cX5_whole 0 = .ok (.iconst 0, 1) := dk_3 (dk_at dksX5_whole_0 0 rfl rfl)
theorem dX5_whole_1 : decode cX5_whole 1 = .ok (.istore_n 2, 1) := dk_61 (dk_at dksX5_whole_0 1 rfl rfl)
theorem dX5_whole_2 : decode cX5_whole 2 = .ok (.aload_n 1, 1) := dk_43 (dk_at dksX5_whole_0 2 rfl rfl)
theorem dX5_whole_3 : decode cX5_whole 3 = .ok (.iload_n 2, 1) := dk_28 (dk_at dksX5_whole_0 3 rfl rfl)
theorem dX5_whole_4 : decode cX5_whole 4 = .ok (.aload_n 0, 1) := dk_42 (dk_at dksX5_whole_0 4 rfl rfl)
theorem dX5_whole_5 : decode cX5_whole 5 = .ok (.invokevirtual 55, 3) := dk_182 0 55 (dk_at dksX5_whole_0 5 rfl rfl)
theorem dX5_whole_8 : decode cX5_whole 8 = .ok (.aastore, 1) := dk_83 (dk_at dksX5_whole_0 8 rfl rfl)
theorem dX5_whole_9 : decode cX5_whole 9 = .ok (.iinc 2 1, 3) := dk_132 2 1 (dk_at dksX5_whole_0 9 rfl rfl)
theorem dX5_whole_12 : decode cX5_whole 12 = .ok (.aload_n 0, 1) := dk_42 (dk_at dksX5_whole_0 12 rfl rfl)
theorem dX5_whole_13 : decode cX5_whole 13 = .ok (.getfield 15, 3) := dk_180 0 15 (dk_at dksX5_whole_0 13 rfl rfl)
theorem dX5_whole_16 : decode cX5_whole 16 = .ok (.aload_n 0, 1) := dk_42 (dk_at dksX5_whole_0 16 rfl rfl)
theorem dX5_whole_17 : decode cX5_whole 17 = .ok (.getfield 9, 3) := dk_180 0 9 (dk_at dksX5_whole_0 17 rfl rfl)
theorem dX5_whole_20 : decode cX5_whole 20 = .ok (.arraylength, 1) := dk_190 (dk_at dksX5_whole_0 20 rfl rfl)
theorem dX5_whole_21 : decode cX5_whole 21 = .ok (.if_icmp .lt (-19), 3) := dk_161 255 237 (dk_at dksX5_whole_0 21 rfl rfl)
theorem dX5_whole_24 : decode cX5_whole 24 = .ok (.iload_n 2, 1) := dk_28 (dk_at dksX5_whole_1 0 rfl rfl)
theorem dX5_whole_25 : decode cX5_whole 25 = .ok (.ireturn, 1) := dk_172 (dk_at dksX5_whole_1 1 rfl rfl)
abbrev cX5_statement : ByteArray := prog_12_method_6_code
def yX5_statement : MethodName := ⟨RX5, "statement", "()LCakesToTheWatched$Told;"⟩
def dkwX5_statement_2 : List UInt8 := [180, 0, 15, 4, 96, 181, 0, 15, 43, 176]
abbrev dktX5_statement_2 : List UInt8 := dkwX5_statement_2 ++ []
def dkwX5_statement_1 : List UInt8 := [181, 0, 15, 42, 43, 182, 0, 51, 42, 182, 0, 24, 16, 59, 159, 0, 8, 42, 182, 0, 32, 191, 42, 89]
abbrev dktX5_statement_1 : List UInt8 := dkwX5_statement_1 ++ dktX5_statement_2
def dkwX5_statement_0 : List UInt8 := [187, 0, 37, 89, 42, 182, 0, 24, 42, 180, 0, 15, 183, 0, 48, 76, 42, 89, 180, 0, 15, 4, 96]
abbrev dktX5_statement_0 : List UInt8 := dkwX5_statement_0 ++ dktX5_statement_1
theorem dksX5_statement_0 : cX5_statement.data.toList.drop 0 = dktX5_statement_0 := by decide +kernel
theorem dksX5_statement_1 : cX5_statement.data.toList.drop 23 = dktX5_statement_1 := dk_seg dksX5_statement_0 23 rfl rfl
theorem dksX5_statement_2 : cX5_statement.data.toList.drop 47 = dktX5_statement_2 := dk_seg dksX5_statement_1 24 rfl rfl
theorem dX5_statement_0 : decode cX5_statement 0 = .ok (.new 37, 3) := dk_187 0 37 (dk_at dksX5_statement_0 0 rfl rfl)
theorem dX5_statement_3 : decode cX5_statement 3 = .ok (.dup, 1) := dk_89 (dk_at dksX5_statement_0 3 rfl rfl)
theorem dX5_statement_4 : decode cX5_statement 4 = .ok (.aload_n 0, 1) := dk_42 (dk_at dksX5_statement_0 4 rfl rfl)
theorem dX5_statement_5 : decode cX5_statement 5 = .ok (.invokevirtual 24, 3) := dk_182 0 24 (dk_at dksX5_statement_0 5 rfl rfl)
theorem dX5_statement_8 : decode cX5_statement 8 = .ok (.aload_n 0, 1) := dk_42 (dk_at dksX5_statement_0 8 rfl rfl)
theorem dX5_statement_9 : decode cX5_statement 9 = .ok (.getfield 15, 3) := dk_180 0 15 (dk_at dksX5_statement_0 9 rfl rfl)
theorem dX5_statement_12 : decode cX5_statement 12 = .ok (.invokespecial 48, 3) := dk_183 0 48 (dk_at dksX5_statement_0 12 rfl rfl)
theorem dX5_statement_15 : decode cX5_statement 15 = .ok (.astore_n 1, 1) := dk_76 (dk_at dksX5_statement_0 15 rfl rfl)
theorem dX5_statement_16 : decode cX5_statement 16 = .ok (.aload_n 0, 1) := dk_42 (dk_at dksX5_statement_0 16 rfl rfl)
theorem dX5_statement_17 : decode cX5_statement 17 = .ok (.dup, 1) := dk_89 (dk_at dksX5_statement_0 17 rfl rfl)
theorem dX5_statement_18 : decode cX5_statement 18 = .ok (.getfield 15, 3) := dk_180 0 15 (dk_at dksX5_statement_0 18 rfl rfl)
theorem dX5_statement_21 : decode cX5_statement 21 = .ok (.iconst 1, 1) := dk_4 (dk_at dksX5_statement_0 21 rfl rfl)
theorem dX5_statement_22 : decode cX5_statement 22 = .ok (.iadd, 1) := dk_96 (dk_at dksX5_statement_0 22 rfl rfl)
theorem dX5_statement_23 : decode cX5_statement 23 = .ok (.putfield 15, 3) := dk_181 0 15 (dk_at dksX5_statement_1 0 rfl rfl)
theorem dX5_statement_26 : decode cX5_statement 26 = .ok (.aload_n 0, 1) := dk_42 (dk_at dksX5_statement_1 3 rfl rfl)
theorem dX5_statement_27 : decode cX5_statement 27 = .ok (.aload_n 1, 1) := dk_43 (dk_at dksX5_statement_1 4 rfl rfl)
theorem dX5_statement_28 : decode cX5_statement 28 = .ok (.invokevirtual 51, 3) := dk_182 0 51 (dk_at dksX5_statement_1 5 rfl rfl)
theorem dX5_statement_31 : decode cX5_statement 31 = .ok (.aload_n 0, 1) := dk_42 (dk_at dksX5_statement_1 8 rfl rfl)
theorem dX5_statement_32 : decode cX5_statement 32 = .ok (.invokevirtual 24, 3) := dk_182 0 24 (dk_at dksX5_statement_1 9 rfl rfl)
theorem dX5_statement_35 : decode cX5_statement 35 = .ok (.bipush 59, 2) := dk_16 59 (dk_at dksX5_statement_1 12 rfl rfl)
theorem dX5_statement_37 : decode cX5_statement 37 = .ok (.if_icmp .eq 8, 3) := dk_159 0 8 (dk_at dksX5_statement_1 14 rfl rfl)
theorem dX5_statement_40 : decode cX5_statement 40 = .ok (.aload_n 0, 1) := dk_42 (dk_at dksX5_statement_1 17 rfl rfl)
theorem dX5_statement_41 : decode cX5_statement 41 = .ok (.invokevirtual 32, 3) := dk_182 0 32 (dk_at dksX5_statement_1 18 rfl rfl)
theorem dX5_statement_44 : decode cX5_statement 44 = .ok (.athrow, 1) := dk_191 (dk_at dksX5_statement_1 21 rfl rfl)
theorem dX5_statement_45 : decode cX5_statement 45 = .ok (.aload_n 0, 1) := dk_42 (dk_at dksX5_statement_1 22 rfl rfl)
theorem dX5_statement_46 : decode cX5_statement 46 = .ok (.dup, 1) := dk_89 (dk_at dksX5_statement_1 23 rfl rfl)
theorem dX5_statement_47 : decode cX5_statement 47 = .ok (.getfield 15, 3) := dk_180 0 15 (dk_at dksX5_statement_2 0 rfl rfl)
theorem dX5_statement_50 : decode cX5_statement 50 = .ok (.iconst 1, 1) := dk_4 (dk_at dksX5_statement_2 3 rfl rfl)
theorem dX5_statement_51 : decode cX5_statement 51 = .ok (.iadd, 1) := dk_96 (dk_at dksX5_statement_2 4 rfl rfl)
theorem dX5_statement_52 : decode cX5_statement 52 = .ok (.putfield 15, 3) := dk_181 0 15 (dk_at dksX5_statement_2 5 rfl rfl)
theorem dX5_statement_55 : decode cX5_statement 55 = .ok (.aload_n 1, 1) := dk_43 (dk_at dksX5_statement_2 8 rfl rfl)
theorem dX5_statement_56 : decode cX5_statement 56 = .ok (.areturn, 1) := dk_176 (dk_at dksX5_statement_2 9 rfl rfl)
abbrev cX5_sign : ByteArray := prog_12_method_2_code
def yX5_sign : MethodName := ⟨RX5, "sign", "()I"⟩
def dkwX5_sign_1 : List UInt8 := [2, 172]
abbrev dktX5_sign_1 : List UInt8 := dkwX5_sign_1 ++ []
def dkwX5_sign_0 : List UInt8 := [42, 180, 0, 15, 42, 180, 0, 9, 190, 162, 0, 15, 42, 180, 0, 9, 42, 180, 0, 15, 51, 167, 0, 4]
abbrev dktX5_sign_0 : List UInt8 := dkwX5_sign_0 ++ dktX5_sign_1
theorem dksX5_sign_0 : cX5_sign.data.toList.drop 0 = dktX5_sign_0 := by decide +kernel
theorem dksX5_sign_1 : cX5_sign.data.toList.drop 24 = dktX5_sign_1 := dk_seg dksX5_sign_0 24 rfl rfl
theorem dX5_sign_0 : decode cX5_sign 0 = .ok (.aload_n 0, 1) := dk_42 (dk_at dksX5_sign_0 0 rfl rfl)
theorem dX5_sign_1 : decode cX5_sign 1 = .ok (.getfield 15, 3) := dk_180 0 15 (dk_at dksX5_sign_0 1 rfl rfl)
theorem dX5_sign_4 : decode cX5_sign 4 = .ok (.aload_n 0, 1) := dk_42 (dk_at dksX5_sign_0 4 rfl rfl)
theorem dX5_sign_5 : decode cX5_sign 5 = .ok (.getfield 9, 3) := dk_180 0 9 (dk_at dksX5_sign_0 5 rfl rfl)
theorem dX5_sign_8 : decode cX5_sign 8 = .ok (.arraylength, 1) := dk_190 (dk_at dksX5_sign_0 8 rfl rfl)
theorem dX5_sign_9 : decode cX5_sign 9 = .ok (.if_icmp .ge 15, 3) := dk_162 0 15 (dk_at dksX5_sign_0 9 rfl rfl)
theorem dX5_sign_12 : decode cX5_sign 12 = .ok (.aload_n 0, 1) := dk_42 (dk_at dksX5_sign_0 12 rfl rfl)
theorem dX5_sign_13 : decode cX5_sign 13 = .ok (.getfield 9, 3) := dk_180 0 9 (dk_at dksX5_sign_0 13 rfl rfl)
theorem dX5_sign_16 : decode cX5_sign 16 = .ok (.aload_n 0, 1) := dk_42 (dk_at dksX5_sign_0 16 rfl rfl)
theorem dX5_sign_17 : decode cX5_sign 17 = .ok (.getfield 15, 3) := dk_180 0 15 (dk_at dksX5_sign_0 17 rfl rfl)
theorem dX5_sign_20 : decode cX5_sign 20 = .ok (.baload, 1) := dk_51 (dk_at dksX5_sign_0 20 rfl rfl)
theorem dX5_sign_21 : decode cX5_sign 21 = .ok (.goto 4, 3) := dk_167 0 4 (dk_at dksX5_sign_0 21 rfl rfl)
theorem dX5_sign_24 : decode cX5_sign 24 = .ok (.iconst (-1), 1) := dk_2 (dk_at dksX5_sign_1 0 rfl rfl)
theorem dX5_sign_25 : decode cX5_sign 25 = .ok (.ireturn, 1) := dk_172 (dk_at dksX5_sign_1 1 rfl rfl)
abbrev cX5_reads : ByteArray := prog_12_method_5_code
def yX5_reads : MethodName := ⟨RX5, "reads", "(LCakesToTheWatched$Told;)V"⟩
def dkwX5_reads_6 : List UInt8 := [100, 181, 0, 15, 42, 182, 0, 32, 191, 177]
abbrev dktX5_reads_6 : List UInt8 := dkwX5_reads_6 ++ []
def dkwX5_reads_5 : List UInt8 := [182, 0, 41, 182, 0, 45, 43, 42, 5, 182, 0, 41, 182, 0, 45, 167, 0, 18, 42, 89, 180, 0, 15, 4]
abbrev dktX5_reads_5 : List UInt8 := dkwX5_reads_5 ++ dktX5_reads_6
def dkwX5_reads_4 : List UInt8 := [43, 42, 4, 182, 0, 41, 182, 0, 45, 43, 42, 4, 182, 0, 41, 182, 0, 45, 167, 0, 39, 43, 42, 4]
abbrev dktX5_reads_4 : List UInt8 := dkwX5_reads_4 ++ dktX5_reads_5
def dkwX5_reads_3 : List UInt8 := [182, 0, 45, 132, 2, 1, 167, 255, 230, 167, 0, 72, 43, 42, 5, 182, 0, 41, 182, 0, 45, 167, 0, 60]
abbrev dktX5_reads_3 : List UInt8 := dkwX5_reads_3 ++ dktX5_reads_4
def dkwX5_reads_2 : List UInt8 := [3, 61, 28, 7, 162, 0, 27, 43, 42, 28, 5, 162, 0, 7, 4, 167, 0, 4, 5, 182, 0, 41]
abbrev dktX5_reads_2 : List UInt8 := dkwX5_reads_2 ++ dktX5_reads_3
def dkwX5_reads_1 : List UInt8 := [171, 0, 0, 0, 0, 0, 0, 140, 0, 0, 0, 5, 0, 0, 0, 99, 0, 0, 0, 86, 0, 0, 0, 104, 0, 0, 0, 119, 0, 0, 0, 108, 0, 0, 0, 119, 0, 0, 0, 112, 0, 0, 0, 52, 0, 0, 0, 116, 0, 0, 0, 98]
abbrev dktX5_reads_1 : List UInt8 := dkwX5_reads_1 ++ dktX5_reads_2
def dkwX5_reads_0 : List UInt8 := [43, 180, 0, 36]
abbrev dktX5_reads_0 : List UInt8 := dkwX5_reads_0 ++ dktX5_reads_1
theorem dksX5_reads_0 : cX5_reads.data.toList.drop 0 = dktX5_reads_0 := by decide +kernel
theorem dksX5_reads_1 : cX5_reads.data.toList.drop 4 = dktX5_reads_1 := dk_seg dksX5_reads_0 4 rfl rfl
theorem dksX5_reads_2 : cX5_reads.data.toList.drop 56 = dktX5_reads_2 := dk_seg dksX5_reads_1 52 rfl rfl
theorem dksX5_reads_3 : cX5_reads.data.toList.drop 78 = dktX5_reads_3 := dk_seg dksX5_reads_2 22 rfl rfl
theorem dksX5_reads_4 : cX5_reads.data.toList.drop 102 = dktX5_reads_4 := dk_seg dksX5_reads_3 24 rfl rfl
theorem dksX5_reads_5 : cX5_reads.data.toList.drop 126 = dktX5_reads_5 := dk_seg dksX5_reads_4 24 rfl rfl
theorem dksX5_reads_6 : cX5_reads.data.toList.drop 150 = dktX5_reads_6 := dk_seg dksX5_reads_5 24 rfl rfl
theorem dX5_reads_0 : decode cX5_reads 0 = .ok (.aload_n 1, 1) := dk_43 (dk_at dksX5_reads_0 0 rfl rfl)
theorem dX5_reads_1 : decode cX5_reads 1 = .ok (.getfield 36, 3) := dk_180 0 36 (dk_at dksX5_reads_0 1 rfl rfl)
theorem dX5_reads_4 : decode cX5_reads 4 = .ok (.lookupswitch 140 #[(99, 86), (104, 119), (108, 119), (112, 52), (116, 98)], 52) := by decide +kernel
theorem dX5_reads_56 : decode cX5_reads 56 = .ok (.iconst 0, 1) := dk_3 (dk_at dksX5_reads_2 0 rfl rfl)
theorem dX5_reads_57 : decode cX5_reads 57 = .ok (.istore_n 2, 1) := dk_61 (dk_at dksX5_reads_2 1 rfl rfl)
theorem dX5_reads_58 : decode cX5_reads 58 = .ok (.iload_n 2, 1) := dk_28 (dk_at dksX5_reads_2 2 rfl rfl)
theorem dX5_reads_59 : decode cX5_reads 59 = .ok (.iconst 4, 1) := dk_7 (dk_at dksX5_reads_2 3 rfl rfl)
theorem dX5_reads_60 : decode cX5_reads 60 = .ok (.if_icmp .ge 27, 3) := dk_162 0 27 (dk_at dksX5_reads_2 4 rfl rfl)
theorem dX5_reads_63 : decode cX5_reads 63 = .ok (.aload_n 1, 1) := dk_43 (dk_at dksX5_reads_2 7 rfl rfl)
theorem dX5_reads_64 : decode cX5_reads 64 = .ok (.aload_n 0, 1) := dk_42 (dk_at dksX5_reads_2 8 rfl rfl)
theorem dX5_reads_65 : decode cX5_reads 65 = .ok (.iload_n 2, 1) := dk_28 (dk_at dksX5_reads_2 9 rfl rfl)
theorem dX5_reads_66 : decode cX5_reads 66 = .ok (.iconst 2, 1) := dk_5 (dk_at dksX5_reads_2 10 rfl rfl)
theorem dX5_reads_67 : decode cX5_reads 67 = .ok (.if_icmp .ge 7, 3) := dk_162 0 7 (dk_at dksX5_reads_2 11 rfl rfl)
theorem dX5_reads_70 : decode cX5_reads 70 = .ok (.iconst 1, 1) := dk_4 (dk_at dksX5_reads_2 14 rfl rfl)
theorem dX5_reads_71 : decode cX5_reads 71 = .ok (.goto 4, 3) := dk_167 0 4 (dk_at dksX5_reads_2 15 rfl rfl)
theorem dX5_reads_74 : decode cX5_reads 74 = .ok (.iconst 2, 1) := dk_5 (dk_at dksX5_reads_2 18 rfl rfl)
theorem dX5_reads_75 : decode cX5_reads 75 = .ok (.invokevirtual 41, 3) := dk_182 0 41 (dk_at dksX5_reads_2 19 rfl rfl)
theorem dX5_reads_78 : decode cX5_reads 78 = .ok (.invokevirtual 45, 3) := dk_182 0 45 (dk_at dksX5_reads_3 0 rfl rfl)
theorem dX5_reads_81 : decode cX5_reads 81 = .ok (.iinc 2 1, 3) := dk_132 2 1 (dk_at dksX5_reads_3 3 rfl rfl)
theorem dX5_reads_84 : decode cX5_reads 84 = .ok (.goto (-26), 3) := dk_167 255 230 (dk_at dksX5_reads_3 6 rfl rfl)
theorem dX5_reads_87 : decode cX5_reads 87 = .ok (.goto 72, 3) := dk_167 0 72 (dk_at dksX5_reads_3 9 rfl rfl)
theorem dX5_reads_90 : decode cX5_reads 90 = .ok (.aload_n 1, 1) := dk_43 (dk_at dksX5_reads_3 12 rfl rfl)
theorem dX5_reads_91 : decode cX5_reads 91 = .ok (.aload_n 0, 1) := dk_42 (dk_at dksX5_reads_3 13 rfl rfl)
theorem dX5_reads_92 : decode cX5_reads 92 = .ok (.iconst 2, 1) := dk_5 (dk_at dksX5_reads_3 14 rfl rfl)
theorem dX5_reads_93 : decode cX5_reads 93 = .ok (.invokevirtual 41, 3) := dk_182 0 41 (dk_at dksX5_reads_3 15 rfl rfl)
theorem dX5_reads_96 : decode cX5_reads 96 = .ok (.invokevirtual 45, 3) := dk_182 0 45 (dk_at dksX5_reads_3 18 rfl rfl)
theorem dX5_reads_99 : decode cX5_reads 99 = .ok (.goto 60, 3) := dk_167 0 60 (dk_at dksX5_reads_3 21 rfl rfl)
theorem dX5_reads_102 : decode cX5_reads 102 = .ok (.aload_n 1, 1) := dk_43 (dk_at dksX5_reads_4 0 rfl rfl)
theorem dX5_reads_103 : decode cX5_reads 103 = .ok (.aload_n 0, 1) := dk_42 (dk_at dksX5_reads_4 1 rfl rfl)
theorem dX5_reads_104 : decode cX5_reads 104 = .ok (.iconst 1, 1) := dk_4 (dk_at dksX5_reads_4 2 rfl rfl)
theorem dX5_reads_105 : decode cX5_reads 105 = .ok (.invokevirtual 41, 3) := dk_182 0 41 (dk_at dksX5_reads_4 3 rfl rfl)
theorem dX5_reads_108 : decode cX5_reads 108 = .ok (.invokevirtual 45, 3) := dk_182 0 45 (dk_at dksX5_reads_4 6 rfl rfl)
theorem dX5_reads_111 : decode cX5_reads 111 = .ok (.aload_n 1, 1) := dk_43 (dk_at dksX5_reads_4 9 rfl rfl)
theorem dX5_reads_112 : decode cX5_reads 112 = .ok (.aload_n 0, 1) := dk_42 (dk_at dksX5_reads_4 10 rfl rfl)
theorem dX5_reads_113 : decode cX5_reads 113 = .ok (.iconst 1, 1) := dk_4 (dk_at dksX5_reads_4 11 rfl rfl)
theorem dX5_reads_114 : decode cX5_reads 114 = .ok (.invokevirtual 41, 3) := dk_182 0 41 (dk_at dksX5_reads_4 12 rfl rfl)
theorem dX5_reads_117 : decode cX5_reads 117 = .ok (.invokevirtual 45, 3) := dk_182 0 45 (dk_at dksX5_reads_4 15 rfl rfl)
theorem dX5_reads_120 : decode cX5_reads 120 = .ok (.goto 39, 3) := dk_167 0 39 (dk_at dksX5_reads_4 18 rfl rfl)
theorem dX5_reads_123 : decode cX5_reads 123 = .ok (.aload_n 1, 1) := dk_43 (dk_at dksX5_reads_4 21 rfl rfl)
theorem dX5_reads_124 : decode cX5_reads 124 = .ok (.aload_n 0, 1) := dk_42 (dk_at dksX5_reads_4 22 rfl rfl)
theorem dX5_reads_125 : decode cX5_reads 125 = .ok (.iconst 1, 1) := dk_4 (dk_at dksX5_reads_4 23 rfl rfl)
theorem dX5_reads_126 : decode cX5_reads 126 = .ok (.invokevirtual 41, 3) := dk_182 0 41 (dk_at dksX5_reads_5 0 rfl rfl)
theorem dX5_reads_129 : decode cX5_reads 129 = .ok (.invokevirtual 45, 3) := dk_182 0 45 (dk_at dksX5_reads_5 3 rfl rfl)
theorem dX5_reads_132 : decode cX5_reads 132 = .ok (.aload_n 1, 1) := dk_43 (dk_at dksX5_reads_5 6 rfl rfl)
theorem dX5_reads_133 : decode cX5_reads 133 = .ok (.aload_n 0, 1) := dk_42 (dk_at dksX5_reads_5 7 rfl rfl)
theorem dX5_reads_134 : decode cX5_reads 134 = .ok (.iconst 2, 1) := dk_5 (dk_at dksX5_reads_5 8 rfl rfl)
theorem dX5_reads_135 : decode cX5_reads 135 = .ok (.invokevirtual 41, 3) := dk_182 0 41 (dk_at dksX5_reads_5 9 rfl rfl)
theorem dX5_reads_138 : decode cX5_reads 138 = .ok (.invokevirtual 45, 3) := dk_182 0 45 (dk_at dksX5_reads_5 12 rfl rfl)
theorem dX5_reads_141 : decode cX5_reads 141 = .ok (.goto 18, 3) := dk_167 0 18 (dk_at dksX5_reads_5 15 rfl rfl)
theorem dX5_reads_144 : decode cX5_reads 144 = .ok (.aload_n 0, 1) := dk_42 (dk_at dksX5_reads_5 18 rfl rfl)
theorem dX5_reads_145 : decode cX5_reads 145 = .ok (.dup, 1) := dk_89 (dk_at dksX5_reads_5 19 rfl rfl)
theorem dX5_reads_146 : decode cX5_reads 146 = .ok (.getfield 15, 3) := dk_180 0 15 (dk_at dksX5_reads_5 20 rfl rfl)
theorem dX5_reads_149 : decode cX5_reads 149 = .ok (.iconst 1, 1) := dk_4 (dk_at dksX5_reads_5 23 rfl rfl)
theorem dX5_reads_150 : decode cX5_reads 150 = .ok (.isub, 1) := dk_100 (dk_at dksX5_reads_6 0 rfl rfl)
theorem dX5_reads_151 : decode cX5_reads 151 = .ok (.putfield 15, 3) := dk_181 0 15 (dk_at dksX5_reads_6 1 rfl rfl)
theorem dX5_reads_154 : decode cX5_reads 154 = .ok (.aload_n 0, 1) := dk_42 (dk_at dksX5_reads_6 4 rfl rfl)
theorem dX5_reads_155 : decode cX5_reads 155 = .ok (.invokevirtual 32, 3) := dk_182 0 32 (dk_at dksX5_reads_6 5 rfl rfl)
theorem dX5_reads_158 : decode cX5_reads 158 = .ok (.athrow, 1) := dk_191 (dk_at dksX5_reads_6 8 rfl rfl)
theorem dX5_reads_159 : decode cX5_reads 159 = .ok (.return_, 1) := dk_177 (dk_at dksX5_reads_6 9 rfl rfl)
abbrev cX5_number : ByteArray := prog_12_method_4_code
def yX5_number : MethodName := ⟨RX5, "number", "(I)I"⟩
def dkwX5_number_2 : List UInt8 := [181, 0, 15, 132, 3, 1, 167, 255, 206, 28, 172]
abbrev dktX5_number_2 : List UInt8 := dkwX5_number_2 ++ []
def dkwX5_number_1 : List UInt8 := [182, 0, 32, 191, 16, 10, 28, 104, 42, 182, 0, 24, 96, 16, 48, 100, 61, 42, 89, 180, 0, 15, 4, 96]
abbrev dktX5_number_1 : List UInt8 := dkwX5_number_1 ++ dktX5_number_2
def dkwX5_number_0 : List UInt8 := [3, 61, 3, 62, 29, 27, 162, 0, 51, 42, 182, 0, 24, 16, 48, 16, 57, 184, 0, 28, 154, 0, 8, 42]
abbrev dktX5_number_0 : List UInt8 := dkwX5_number_0 ++ dktX5_number_1
theorem dksX5_number_0 : cX5_number.data.toList.drop 0 = dktX5_number_0 := by decide +kernel
theorem dksX5_number_1 : cX5_number.data.toList.drop 24 = dktX5_number_1 := dk_seg dksX5_number_0 24 rfl rfl
theorem dksX5_number_2 : cX5_number.data.toList.drop 48 = dktX5_number_2 := dk_seg dksX5_number_1 24 rfl rfl
theorem dX5_number_0 : decode cX5_number 0 = .ok (.iconst 0, 1) := dk_3 (dk_at dksX5_number_0 0 rfl rfl)
theorem dX5_number_1 : decode cX5_number 1 = .ok (.istore_n 2, 1) := dk_61 (dk_at dksX5_number_0 1 rfl rfl)
theorem dX5_number_2 : decode cX5_number 2 = .ok (.iconst 0, 1) := dk_3 (dk_at dksX5_number_0 2 rfl rfl)
theorem dX5_number_3 : decode cX5_number 3 = .ok (.istore_n 3, 1) := dk_62 (dk_at dksX5_number_0 3 rfl rfl)
theorem dX5_number_4 : decode cX5_number 4 = .ok (.iload_n 3, 1) := dk_29 (dk_at dksX5_number_0 4 rfl rfl)
theorem dX5_number_5 : decode cX5_number 5 = .ok (.iload_n 1, 1) := dk_27 (dk_at dksX5_number_0 5 rfl rfl)
theorem dX5_number_6 : decode cX5_number 6 = .ok (.if_icmp .ge 51, 3) := dk_162 0 51 (dk_at dksX5_number_0 6 rfl rfl)
theorem dX5_number_9 : decode cX5_number 9 = .ok (.aload_n 0, 1) := dk_42 (dk_at dksX5_number_0 9 rfl rfl)
theorem dX5_number_10 : decode cX5_number 10 = .ok (.invokevirtual 24, 3) := dk_182 0 24 (dk_at dksX5_number_0 10 rfl rfl)
theorem dX5_number_13 : decode cX5_number 13 = .ok (.bipush 48, 2) := dk_16 48 (dk_at dksX5_number_0 13 rfl rfl)
theorem dX5_number_15 : decode cX5_number 15 = .ok (.bipush 57, 2) := dk_16 57 (dk_at dksX5_number_0 15 rfl rfl)
theorem dX5_number_17 : decode cX5_number 17 = .ok (.invokestatic 28, 3) := dk_184 0 28 (dk_at dksX5_number_0 17 rfl rfl)
theorem dX5_number_20 : decode cX5_number 20 = .ok (.ifCond .ne 8, 3) := dk_154 0 8 (dk_at dksX5_number_0 20 rfl rfl)
theorem dX5_number_23 : decode cX5_number 23 = .ok (.aload_n 0, 1) := dk_42 (dk_at dksX5_number_0 23 rfl rfl)
theorem dX5_number_24 : decode cX5_number 24 = .ok (.invokevirtual 32, 3) := dk_182 0 32 (dk_at dksX5_number_1 0 rfl rfl)
theorem dX5_number_27 : decode cX5_number 27 = .ok (.athrow, 1) := dk_191 (dk_at dksX5_number_1 3 rfl rfl)
theorem dX5_number_28 : decode cX5_number 28 = .ok (.bipush 10, 2) := dk_16 10 (dk_at dksX5_number_1 4 rfl rfl)
theorem dX5_number_30 : decode cX5_number 30 = .ok (.iload_n 2, 1) := dk_28 (dk_at dksX5_number_1 6 rfl rfl)
theorem dX5_number_31 : decode cX5_number 31 = .ok (.imul, 1) := dk_104 (dk_at dksX5_number_1 7 rfl rfl)
theorem dX5_number_32 : decode cX5_number 32 = .ok (.aload_n 0, 1) := dk_42 (dk_at dksX5_number_1 8 rfl rfl)
theorem dX5_number_33 : decode cX5_number 33 = .ok (.invokevirtual 24, 3) := dk_182 0 24 (dk_at dksX5_number_1 9 rfl rfl)
theorem dX5_number_36 : decode cX5_number 36 = .ok (.iadd, 1) := dk_96 (dk_at dksX5_number_1 12 rfl rfl)
theorem dX5_number_37 : decode cX5_number 37 = .ok (.bipush 48, 2) := dk_16 48 (dk_at dksX5_number_1 13 rfl rfl)
theorem dX5_number_39 : decode cX5_number 39 = .ok (.isub, 1) := dk_100 (dk_at dksX5_number_1 15 rfl rfl)
theorem dX5_number_40 : decode cX5_number 40 = .ok (.istore_n 2, 1) := dk_61 (dk_at dksX5_number_1 16 rfl rfl)
theorem dX5_number_41 : decode cX5_number 41 = .ok (.aload_n 0, 1) := dk_42 (dk_at dksX5_number_1 17 rfl rfl)
theorem dX5_number_42 : decode cX5_number 42 = .ok (.dup, 1) := dk_89 (dk_at dksX5_number_1 18 rfl rfl)
theorem dX5_number_43 : decode cX5_number 43 = .ok (.getfield 15, 3) := dk_180 0 15 (dk_at dksX5_number_1 19 rfl rfl)
theorem dX5_number_46 : decode cX5_number 46 = .ok (.iconst 1, 1) := dk_4 (dk_at dksX5_number_1 22 rfl rfl)
theorem dX5_number_47 : decode cX5_number 47 = .ok (.iadd, 1) := dk_96 (dk_at dksX5_number_1 23 rfl rfl)
theorem dX5_number_48 : decode cX5_number 48 = .ok (.putfield 15, 3) := dk_181 0 15 (dk_at dksX5_number_2 0 rfl rfl)
theorem dX5_number_51 : decode cX5_number 51 = .ok (.iinc 3 1, 3) := dk_132 3 1 (dk_at dksX5_number_2 3 rfl rfl)
theorem dX5_number_54 : decode cX5_number 54 = .ok (.goto (-50), 3) := dk_167 255 206 (dk_at dksX5_number_2 6 rfl rfl)
theorem dX5_number_57 : decode cX5_number 57 = .ok (.iload_n 2, 1) := dk_28 (dk_at dksX5_number_2 9 rfl rfl)
theorem dX5_number_58 : decode cX5_number 58 = .ok (.ireturn, 1) := dk_172 (dk_at dksX5_number_2 10 rfl rfl)
abbrev cX5_broken : ByteArray := prog_12_method_3_code
def yX5_broken : MethodName := ⟨RX5, "broken", "()LCakesToTheWatched$Broken;"⟩
def dkwX5_broken_0 : List UInt8 := [187, 0, 19, 89, 17, 252, 24, 42, 180, 0, 15, 100, 183, 0, 21, 176]
abbrev dktX5_broken_0 : List UInt8 := dkwX5_broken_0 ++ []
theorem dksX5_broken_0 : cX5_broken.data.toList.drop 0 = dktX5_broken_0 := by decide +kernel
theorem dX5_broken_0 : decode cX5_broken 0 = .ok (.new 19, 3) := dk_187 0 19 (dk_at dksX5_broken_0 0 rfl rfl)
theorem dX5_broken_3 : decode cX5_broken 3 = .ok (.dup, 1) := dk_89 (dk_at dksX5_broken_0 3 rfl rfl)
theorem dX5_broken_4 : decode cX5_broken 4 = .ok (.sipush (-1000), 3) := dk_17 252 24 (dk_at dksX5_broken_0 4 rfl rfl)
theorem dX5_broken_7 : decode cX5_broken 7 = .ok (.aload_n 0, 1) := dk_42 (dk_at dksX5_broken_0 7 rfl rfl)
theorem dX5_broken_8 : decode cX5_broken 8 = .ok (.getfield 15, 3) := dk_180 0 15 (dk_at dksX5_broken_0 8 rfl rfl)
theorem dX5_broken_11 : decode cX5_broken 11 = .ok (.isub, 1) := dk_100 (dk_at dksX5_broken_0 11 rfl rfl)
theorem dX5_broken_12 : decode cX5_broken 12 = .ok (.invokespecial 21, 3) := dk_183 0 21 (dk_at dksX5_broken_0 12 rfl rfl)
theorem dX5_broken_15 : decode cX5_broken 15 = .ok (.areturn, 1) := dk_176 (dk_at dksX5_broken_0 15 rfl rfl)
theorem q48 : (Jvm.Cond.initialized "CakesToTheWatched$FeteReader") ∈ lw_all := lw_g (lw_at lw_m1 10 rfl) rfl
theorem q180 : (Jvm.Cond.instantiable "CakesToTheWatched$FeteReader" (2 : Nat)) ∈ lw_all := lw_g (lw_at lw_m1 142 rfl) rfl
theorem q182 : (Jvm.Cond.instanceMethod ({ cls := "CakesToTheWatched$FeteReader", name := "<init>", desc := "([B)V" } : Jvm.MethodName)) ∈ lw_all := lw_g (lw_at lw_m1 144 rfl) rfl
theorem q183 : (Jvm.Cond.code ({ cls := "CakesToTheWatched$FeteReader", name := "<init>", desc := "([B)V" } : Jvm.MethodName) prog_12_method_1_code (2 : Nat) (Option.none : Option Jvm.ClassFile.FieldType)) ∈ lw_all := lw_g (lw_at lw_m1 145 rfl) rfl
theorem q184 : (Jvm.Cond.methodLink "CakesToTheWatched$FeteReader" (3 : Nat) ({ cls := "java/lang/Object", name := "<init>", desc := "()V" } : Jvm.MethodName)) ∈ lw_all := lw_g (lw_at lw_m1 146 rfl) rfl
theorem q185 : (Jvm.Cond.fieldLink "CakesToTheWatched$FeteReader" (9 : Nat) "CakesToTheWatched$FeteReader" "text" "[B") ∈ lw_all := lw_g (lw_at lw_m1 147 rfl) rfl
theorem q186 : (Jvm.Cond.fieldLink "CakesToTheWatched$FeteReader" (15 : Nat) "CakesToTheWatched$FeteReader" "at" "I") ∈ lw_all := lw_g (lw_at lw_m1 148 rfl) rfl
theorem q187 : (Jvm.Cond.laysFinal "CakesToTheWatched$FeteReader" "CakesToTheWatched$FeteReader" "text" "[B") ∈ lw_all := lw_g (lw_at lw_m1 149 rfl) rfl
theorem q188 : (Jvm.Cond.soleField "CakesToTheWatched$FeteReader" "text") ∈ lw_all := lw_g (lw_at lw_m1 150 rfl) rfl
theorem q189 : (Jvm.Cond.lays "CakesToTheWatched$FeteReader" "CakesToTheWatched$FeteReader" "at" "I") ∈ lw_all := lw_g (lw_at lw_m1 151 rfl) rfl
theorem q190 : (Jvm.Cond.soleField "CakesToTheWatched$FeteReader" "at") ∈ lw_all := lw_g (lw_at lw_m1 152 rfl) rfl
theorem q191 : (Jvm.Cond.superclass "CakesToTheWatched$FeteReader" "java/lang/Object") ∈ lw_all := lw_g (lw_at lw_m1 153 rfl) rfl
theorem q193 : (Jvm.Cond.instanceMethod ({ cls := "CakesToTheWatched$FeteReader", name := "whole", desc := "([LCakesToTheWatched$Told;)I" } : Jvm.MethodName)) ∈ lw_all := lw_g (lw_at lw_m1 155 rfl) rfl
theorem q194 : (Jvm.Cond.selects "CakesToTheWatched$FeteReader" ({ cls := "CakesToTheWatched$FeteReader", name := "whole", desc := "([LCakesToTheWatched$Told;)I" } : Jvm.MethodName) ({ cls := "CakesToTheWatched$FeteReader", name := "whole", desc := "([LCakesToTheWatched$Told;)I" } : Jvm.MethodName)) ∈ lw_all := lw_g (lw_at lw_m1 156 rfl) rfl
theorem q195 : (Jvm.Cond.code ({ cls := "CakesToTheWatched$FeteReader", name := "whole", desc := "([LCakesToTheWatched$Told;)I" } : Jvm.MethodName) prog_12_method_7_code (3 : Nat) (Option.some Jvm.ClassFile.FieldType.int)) ∈ lw_all := lw_g (lw_at lw_m1 157 rfl) rfl
theorem q196 : (Jvm.Cond.methodLink "CakesToTheWatched$FeteReader" (55 : Nat) ({ cls := "CakesToTheWatched$FeteReader", name := "statement", desc := "()LCakesToTheWatched$Told;" } : Jvm.MethodName)) ∈ lw_all := lw_g (lw_at lw_m1 158 rfl) rfl
theorem q197 : (Jvm.Cond.privateMethod ({ cls := "CakesToTheWatched$FeteReader", name := "statement", desc := "()LCakesToTheWatched$Told;" } : Jvm.MethodName)) ∈ lw_tbl := lw_at lw_m1 159 rfl
theorem q198 : (Jvm.Cond.instanceMethod ({ cls := "CakesToTheWatched$FeteReader", name := "statement", desc := "()LCakesToTheWatched$Told;" } : Jvm.MethodName)) ∈ lw_all := lw_g (lw_at lw_m1 160 rfl) rfl
theorem q199 : (Jvm.Cond.code ({ cls := "CakesToTheWatched$FeteReader", name := "statement", desc := "()LCakesToTheWatched$Told;" } : Jvm.MethodName) prog_12_method_6_code (2 : Nat) (Option.some (Jvm.ClassFile.FieldType.object "CakesToTheWatched$Told"))) ∈ lw_all := lw_g (lw_at lw_m1 161 rfl) rfl
theorem q200 : (Jvm.Cond.classLink "CakesToTheWatched$FeteReader" (37 : Nat) "CakesToTheWatched$Told") ∈ lw_all := lw_g (lw_at lw_m1 162 rfl) rfl
theorem q202 : (Jvm.Cond.methodLink "CakesToTheWatched$FeteReader" (24 : Nat) ({ cls := "CakesToTheWatched$FeteReader", name := "sign", desc := "()I" } : Jvm.MethodName)) ∈ lw_all := lw_g (lw_at lw_m1 164 rfl) rfl
theorem q203 : (Jvm.Cond.privateMethod ({ cls := "CakesToTheWatched$FeteReader", name := "sign", desc := "()I" } : Jvm.MethodName)) ∈ lw_tbl := lw_at lw_m1 165 rfl
theorem q204 : (Jvm.Cond.instanceMethod ({ cls := "CakesToTheWatched$FeteReader", name := "sign", desc := "()I" } : Jvm.MethodName)) ∈ lw_all := lw_g (lw_at lw_m1 166 rfl) rfl
theorem q205 : (Jvm.Cond.code ({ cls := "CakesToTheWatched$FeteReader", name := "sign", desc := "()I" } : Jvm.MethodName) prog_12_method_2_code (1 : Nat) (Option.some Jvm.ClassFile.FieldType.int)) ∈ lw_all := lw_g (lw_at lw_m1 167 rfl) rfl
theorem q206 : (Jvm.Cond.methodLink "CakesToTheWatched$FeteReader" (48 : Nat) ({ cls := "CakesToTheWatched$Told", name := "<init>", desc := "(II)V" } : Jvm.MethodName)) ∈ lw_all := lw_g (lw_at lw_m1 168 rfl) rfl
theorem q211 : (Jvm.Cond.fieldLink "CakesToTheWatched$FeteReader" (36 : Nat) "CakesToTheWatched$Told" "letter" "I") ∈ lw_all := lw_g (lw_at lw_m1 173 rfl) rfl
theorem q228 : (Jvm.Cond.methodLink "CakesToTheWatched$FeteReader" (51 : Nat) ({ cls := "CakesToTheWatched$FeteReader", name := "reads", desc := "(LCakesToTheWatched$Told;)V" } : Jvm.MethodName)) ∈ lw_all := lw_g (lw_at lw_m1 190 rfl) rfl
theorem q229 : (Jvm.Cond.privateMethod ({ cls := "CakesToTheWatched$FeteReader", name := "reads", desc := "(LCakesToTheWatched$Told;)V" } : Jvm.MethodName)) ∈ lw_tbl := lw_at lw_m1 191 rfl
theorem q230 : (Jvm.Cond.instanceMethod ({ cls := "CakesToTheWatched$FeteReader", name := "reads", desc := "(LCakesToTheWatched$Told;)V" } : Jvm.MethodName)) ∈ lw_all := lw_g (lw_at lw_m1 192 rfl) rfl
theorem q231 : (Jvm.Cond.code ({ cls := "CakesToTheWatched$FeteReader", name := "reads", desc := "(LCakesToTheWatched$Told;)V" } : Jvm.MethodName) prog_12_method_5_code (3 : Nat) (Option.none : Option Jvm.ClassFile.FieldType)) ∈ lw_all := lw_g (lw_at lw_m1 193 rfl) rfl
theorem q232 : (Jvm.Cond.methodLink "CakesToTheWatched$FeteReader" (41 : Nat) ({ cls := "CakesToTheWatched$FeteReader", name := "number", desc := "(I)I" } : Jvm.MethodName)) ∈ lw_all := lw_g (lw_at lw_m1 194 rfl) rfl
theorem q233 : (Jvm.Cond.privateMethod ({ cls := "CakesToTheWatched$FeteReader", name := "number", desc := "(I)I" } : Jvm.MethodName)) ∈ lw_tbl := lw_at lw_m1 195 rfl
theorem q234 : (Jvm.Cond.instanceMethod ({ cls := "CakesToTheWatched$FeteReader", name := "number", desc := "(I)I" } : Jvm.MethodName)) ∈ lw_all := lw_g (lw_at lw_m1 196 rfl) rfl
theorem q235 : (Jvm.Cond.code ({ cls := "CakesToTheWatched$FeteReader", name := "number", desc := "(I)I" } : Jvm.MethodName) prog_12_method_4_code (4 : Nat) (Option.some Jvm.ClassFile.FieldType.int)) ∈ lw_all := lw_g (lw_at lw_m1 197 rfl) rfl
theorem q236 : (Jvm.Cond.methodLinkNest "CakesToTheWatched$FeteReader" (28 : Nat) ({ cls := "CakesToTheWatched", name := "isIn", desc := "(III)Z" } : Jvm.MethodName) "CakesToTheWatched") ∈ lw_tbl := lw_at lw_m1 198 rfl
theorem q237 : (Jvm.Cond.methodLink "CakesToTheWatched$FeteReader" (32 : Nat) ({ cls := "CakesToTheWatched$FeteReader", name := "broken", desc := "()LCakesToTheWatched$Broken;" } : Jvm.MethodName)) ∈ lw_all := lw_g (lw_at lw_m1 199 rfl) rfl
theorem q238 : (Jvm.Cond.privateMethod ({ cls := "CakesToTheWatched$FeteReader", name := "broken", desc := "()LCakesToTheWatched$Broken;" } : Jvm.MethodName)) ∈ lw_tbl := lw_at lw_m1 200 rfl
theorem q239 : (Jvm.Cond.instanceMethod ({ cls := "CakesToTheWatched$FeteReader", name := "broken", desc := "()LCakesToTheWatched$Broken;" } : Jvm.MethodName)) ∈ lw_all := lw_g (lw_at lw_m1 201 rfl) rfl
theorem q240 : (Jvm.Cond.code ({ cls := "CakesToTheWatched$FeteReader", name := "broken", desc := "()LCakesToTheWatched$Broken;" } : Jvm.MethodName) prog_12_method_3_code (1 : Nat) (Option.some (Jvm.ClassFile.FieldType.object "CakesToTheWatched$Broken"))) ∈ lw_all := lw_g (lw_at lw_m1 202 rfl) rfl
theorem q241 : (Jvm.Cond.classLink "CakesToTheWatched$FeteReader" (19 : Nat) "CakesToTheWatched$Broken") ∈ lw_all := lw_g (lw_at lw_m1 203 rfl) rfl
theorem q250 : (Jvm.Cond.methodLink "CakesToTheWatched$FeteReader" (21 : Nat) ({ cls := "CakesToTheWatched$Broken", name := "<init>", desc := "(I)V" } : Jvm.MethodName)) ∈ lw_all := lw_g (lw_at lw_m1 212 rfl) rfl
theorem q263 : (Jvm.Cond.methodLink "CakesToTheWatched$FeteReader" (45 : Nat) ({ cls := "CakesToTheWatched$Told", name := "tells", desc := "(I)V" } : Jvm.MethodName)) ∈ lw_all := lw_g (lw_at lw_m1 225 rfl) rfl
theorem in_X5 : ∀ w ∈ wsX50, w ∈ lw_all := lw_in wsX50 [187, 189] (by decide +kernel) (by decide +kernel)

/-! CakesToTheWatched$Told -/
set_option maxRecDepth 100000
def RX6 : String := "CakesToTheWatched$Told"
def TX6 : u_T := fun k => match k with
  | 0 => ("CakesToTheWatched$Told", "letter", "I", true)
  | 1 => ("CakesToTheWatched$Told", "at", "I", true)
  | 2 => ("CakesToTheWatched$Told", "numbers", "[I", true)
  | _ => ("CakesToTheWatched$Told", "many", "I", false)
def tyX6 : Nat → FieldType := fun k => match k with
  | 0 => .int
  | 1 => .int
  | 2 => .array .int
  | _ => .int
abbrev wsX60 : List Cond := u_ws RX6 TX6 4
theorem nmX6 : ∀ a, a < 4 → ∀ b, b < 4 → a ≠ b → (TX6 a).2.1 ≠ (TX6 b).2.1 := by decide +kernel
theorem tyX6_ok : ∀ k, k < 4 → parseFieldDescriptor (TX6 k).2.2.1 = some (tyX6 k) := by decide +kernel
abbrev cX6_init : ByteArray := prog_17_method_1_code
def yX6_init : MethodName := ⟨RX6, "<init>", "(II)V"⟩
def dkwX6_init_0 : List UInt8 := [42, 183, 0, 1, 42, 7, 188, 10, 181, 0, 7, 42, 27, 181, 0, 13, 42, 28, 181, 0, 17, 177]
abbrev dktX6_init_0 : List UInt8 := dkwX6_init_0 ++ []
theorem dksX6_init_0 : cX6_init.data.toList.drop 0 = dktX6_init_0 := by decide +kernel
theorem dX6_init_0 : decode cX6_init 0 = .ok (.aload_n 0, 1) := dk_42 (dk_at dksX6_init_0 0 rfl rfl)
theorem dX6_init_1 : decode cX6_init 1 = .ok (.invokespecial 1, 3) := dk_183 0 1 (dk_at dksX6_init_0 1 rfl rfl)
theorem dX6_init_4 : decode cX6_init 4 = .ok (.aload_n 0, 1) := dk_42 (dk_at dksX6_init_0 4 rfl rfl)
theorem dX6_init_5 : decode cX6_init 5 = .ok (.iconst 4, 1) := dk_7 (dk_at dksX6_init_0 5 rfl rfl)
theorem dX6_init_6 : decode cX6_init 6 = .ok (.newarray .int, 2) := dk_188_10 (dk_at dksX6_init_0 6 rfl rfl)
theorem dX6_init_8 : decode cX6_init 8 = .ok (.putfield 7, 3) := dk_181 0 7 (dk_at dksX6_init_0 8 rfl rfl)
theorem dX6_init_11 : decode cX6_init 11 = .ok (.aload_n 0, 1) := dk_42 (dk_at dksX6_init_0 11 rfl rfl)
theorem dX6_init_12 : decode cX6_init 12 = .ok (.iload_n 1, 1) := dk_27 (dk_at dksX6_init_0 12 rfl rfl)
theorem dX6_init_13 : decode cX6_init 13 = .ok (.putfield 13, 3) := dk_181 0 13 (dk_at dksX6_init_0 13 rfl rfl)
theorem dX6_init_16 : decode cX6_init 16 = .ok (.aload_n 0, 1) := dk_42 (dk_at dksX6_init_0 16 rfl rfl)
theorem dX6_init_17 : decode cX6_init 17 = .ok (.iload_n 2, 1) := dk_28 (dk_at dksX6_init_0 17 rfl rfl)
theorem dX6_init_18 : decode cX6_init 18 = .ok (.putfield 17, 3) := dk_181 0 17 (dk_at dksX6_init_0 18 rfl rfl)
theorem dX6_init_21 : decode cX6_init 21 = .ok (.return_, 1) := dk_177 (dk_at dksX6_init_0 21 rfl rfl)
abbrev cX6_tells : ByteArray := prog_17_method_2_code
def yX6_tells : MethodName := ⟨RX6, "tells", "(I)V"⟩
def dkwX6_tells_0 : List UInt8 := [42, 180, 0, 7, 42, 180, 0, 20, 27, 79, 42, 89, 180, 0, 20, 4, 96, 181, 0, 20, 177]
abbrev dktX6_tells_0 : List UInt8 := dkwX6_tells_0 ++ []
theorem dksX6_tells_0 : cX6_tells.data.toList.drop 0 = dktX6_tells_0 := by decide +kernel
theorem dX6_tells_0 : decode cX6_tells 0 = .ok (.aload_n 0, 1) := dk_42 (dk_at dksX6_tells_0 0 rfl rfl)
theorem dX6_tells_1 : decode cX6_tells 1 = .ok (.getfield 7, 3) := dk_180 0 7 (dk_at dksX6_tells_0 1 rfl rfl)
theorem dX6_tells_4 : decode cX6_tells 4 = .ok (.aload_n 0, 1) := dk_42 (dk_at dksX6_tells_0 4 rfl rfl)
theorem dX6_tells_5 : decode cX6_tells 5 = .ok (.getfield 20, 3) := dk_180 0 20 (dk_at dksX6_tells_0 5 rfl rfl)
theorem dX6_tells_8 : decode cX6_tells 8 = .ok (.iload_n 1, 1) := dk_27 (dk_at dksX6_tells_0 8 rfl rfl)
theorem dX6_tells_9 : decode cX6_tells 9 = .ok (.iastore, 1) := dk_79 (dk_at dksX6_tells_0 9 rfl rfl)
theorem dX6_tells_10 : decode cX6_tells 10 = .ok (.aload_n 0, 1) := dk_42 (dk_at dksX6_tells_0 10 rfl rfl)
theorem dX6_tells_11 : decode cX6_tells 11 = .ok (.dup, 1) := dk_89 (dk_at dksX6_tells_0 11 rfl rfl)
theorem dX6_tells_12 : decode cX6_tells 12 = .ok (.getfield 20, 3) := dk_180 0 20 (dk_at dksX6_tells_0 12 rfl rfl)
theorem dX6_tells_15 : decode cX6_tells 15 = .ok (.iconst 1, 1) := dk_4 (dk_at dksX6_tells_0 15 rfl rfl)
theorem dX6_tells_16 : decode cX6_tells 16 = .ok (.iadd, 1) := dk_96 (dk_at dksX6_tells_0 16 rfl rfl)
theorem dX6_tells_17 : decode cX6_tells 17 = .ok (.putfield 20, 3) := dk_181 0 20 (dk_at dksX6_tells_0 17 rfl rfl)
theorem dX6_tells_20 : decode cX6_tells 20 = .ok (.return_, 1) := dk_177 (dk_at dksX6_tells_0 20 rfl rfl)
theorem q49 : (Jvm.Cond.initialized "CakesToTheWatched$Told") ∈ lw_all := lw_g (lw_at lw_m1 11 rfl) rfl
theorem q201 : (Jvm.Cond.instantiable "CakesToTheWatched$Told" (4 : Nat)) ∈ lw_all := lw_g (lw_at lw_m1 163 rfl) rfl
theorem q207 : (Jvm.Cond.instanceMethod ({ cls := "CakesToTheWatched$Told", name := "<init>", desc := "(II)V" } : Jvm.MethodName)) ∈ lw_all := lw_g (lw_at lw_m1 169 rfl) rfl
theorem q208 : (Jvm.Cond.code ({ cls := "CakesToTheWatched$Told", name := "<init>", desc := "(II)V" } : Jvm.MethodName) prog_17_method_1_code (3 : Nat) (Option.none : Option Jvm.ClassFile.FieldType)) ∈ lw_all := lw_g (lw_at lw_m1 170 rfl) rfl
theorem q209 : (Jvm.Cond.methodLink "CakesToTheWatched$Told" (1 : Nat) ({ cls := "java/lang/Object", name := "<init>", desc := "()V" } : Jvm.MethodName)) ∈ lw_all := lw_g (lw_at lw_m1 171 rfl) rfl
theorem q210 : (Jvm.Cond.fieldLink "CakesToTheWatched$Told" (13 : Nat) "CakesToTheWatched$Told" "letter" "I") ∈ lw_all := lw_g (lw_at lw_m1 172 rfl) rfl
theorem q213 : (Jvm.Cond.fieldLink "CakesToTheWatched$Told" (17 : Nat) "CakesToTheWatched$Told" "at" "I") ∈ lw_all := lw_g (lw_at lw_m1 175 rfl) rfl
theorem q215 : (Jvm.Cond.fieldLink "CakesToTheWatched$Told" (7 : Nat) "CakesToTheWatched$Told" "numbers" "[I") ∈ lw_all := lw_g (lw_at lw_m1 177 rfl) rfl
theorem q217 : (Jvm.Cond.fieldLink "CakesToTheWatched$Told" (20 : Nat) "CakesToTheWatched$Told" "many" "I") ∈ lw_all := lw_g (lw_at lw_m1 179 rfl) rfl
theorem q218 : (Jvm.Cond.laysFinal "CakesToTheWatched$Told" "CakesToTheWatched$Told" "letter" "I") ∈ lw_all := lw_g (lw_at lw_m1 180 rfl) rfl
theorem q219 : (Jvm.Cond.soleField "CakesToTheWatched$Told" "letter") ∈ lw_all := lw_g (lw_at lw_m1 181 rfl) rfl
theorem q220 : (Jvm.Cond.laysFinal "CakesToTheWatched$Told" "CakesToTheWatched$Told" "at" "I") ∈ lw_all := lw_g (lw_at lw_m1 182 rfl) rfl
theorem q221 : (Jvm.Cond.soleField "CakesToTheWatched$Told" "at") ∈ lw_all := lw_g (lw_at lw_m1 183 rfl) rfl
theorem q222 : (Jvm.Cond.laysFinal "CakesToTheWatched$Told" "CakesToTheWatched$Told" "numbers" "[I") ∈ lw_all := lw_g (lw_at lw_m1 184 rfl) rfl
theorem q223 : (Jvm.Cond.soleField "CakesToTheWatched$Told" "numbers") ∈ lw_all := lw_g (lw_at lw_m1 185 rfl) rfl
theorem q224 : (Jvm.Cond.lays "CakesToTheWatched$Told" "CakesToTheWatched$Told" "many" "I") ∈ lw_all := lw_g (lw_at lw_m1 186 rfl) rfl
theorem q225 : (Jvm.Cond.soleField "CakesToTheWatched$Told" "many") ∈ lw_all := lw_g (lw_at lw_m1 187 rfl) rfl
theorem q226 : (Jvm.Cond.superclass "CakesToTheWatched$Told" "java/lang/Object") ∈ lw_all := lw_g (lw_at lw_m1 188 rfl) rfl
theorem q264 : (Jvm.Cond.instanceMethod ({ cls := "CakesToTheWatched$Told", name := "tells", desc := "(I)V" } : Jvm.MethodName)) ∈ lw_all := lw_g (lw_at lw_m1 226 rfl) rfl
theorem q265 : (Jvm.Cond.selects "CakesToTheWatched$Told" ({ cls := "CakesToTheWatched$Told", name := "tells", desc := "(I)V" } : Jvm.MethodName) ({ cls := "CakesToTheWatched$Told", name := "tells", desc := "(I)V" } : Jvm.MethodName)) ∈ lw_all := lw_g (lw_at lw_m1 227 rfl) rfl
theorem q266 : (Jvm.Cond.code ({ cls := "CakesToTheWatched$Told", name := "tells", desc := "(I)V" } : Jvm.MethodName) prog_17_method_2_code (2 : Nat) (Option.none : Option Jvm.ClassFile.FieldType)) ∈ lw_all := lw_g (lw_at lw_m1 228 rfl) rfl
theorem in_X6 : ∀ w ∈ wsX60, w ∈ lw_all := lw_in wsX60 [218, 220, 222, 224] (by decide +kernel) (by decide +kernel)

/-! CakesToTheWatched$Broken -/
set_option maxRecDepth 100000
def RX7 : String := "CakesToTheWatched$Broken"
def TX7 : u_T := fun k => match k with
  | 0 => ("java/lang/Throwable", "cause", "Ljava/lang/Throwable;", false)
  | 1 => ("java/lang/Throwable", "stackTrace", "[Ljava/lang/StackTraceElement;", false)
  | 2 => ("java/lang/Throwable", "suppressedExceptions", "Ljava/util/List;", false)
  | 3 => ("java/lang/Throwable", "detailMessage", "Ljava/lang/String;", false)
  | 4 => ("java/lang/Throwable", "backtrace", "Ljava/lang/Object;", false)
  | 5 => ("java/lang/Throwable", "depth", "I", false)
  | _ => ("CakesToTheWatched$Broken", "code", "I", true)
def tyX7 : Nat → FieldType := fun k => match k with
  | 0 => .object "java/lang/Throwable"
  | 1 => .array (.object "java/lang/StackTraceElement")
  | 2 => .object "java/util/List"
  | 3 => .object "java/lang/String"
  | 4 => .object "java/lang/Object"
  | 5 => .int
  | _ => .int
abbrev wsX70 : List Cond := u_ws RX7 TX7 7
theorem nmX7 : ∀ a, a < 7 → ∀ b, b < 7 → a ≠ b → (TX7 a).2.1 ≠ (TX7 b).2.1 := by decide +kernel
theorem tyX7_ok : ∀ k, k < 7 → parseFieldDescriptor (TX7 k).2.2.1 = some (tyX7 k) := by decide +kernel
abbrev cX7_init : ByteArray := prog_4_method_1_code
def yX7_init : MethodName := ⟨RX7, "<init>", "(I)V"⟩
def dkwX7_init_0 : List UInt8 := [42, 183, 0, 1, 42, 27, 181, 0, 7, 177]
abbrev dktX7_init_0 : List UInt8 := dkwX7_init_0 ++ []
theorem dksX7_init_0 : cX7_init.data.toList.drop 0 = dktX7_init_0 := by decide +kernel
theorem dX7_init_0 : decode cX7_init 0 = .ok (.aload_n 0, 1) := dk_42 (dk_at dksX7_init_0 0 rfl rfl)
theorem dX7_init_1 : decode cX7_init 1 = .ok (.invokespecial 1, 3) := dk_183 0 1 (dk_at dksX7_init_0 1 rfl rfl)
theorem dX7_init_4 : decode cX7_init 4 = .ok (.aload_n 0, 1) := dk_42 (dk_at dksX7_init_0 4 rfl rfl)
theorem dX7_init_5 : decode cX7_init 5 = .ok (.iload_n 1, 1) := dk_27 (dk_at dksX7_init_0 5 rfl rfl)
theorem dX7_init_6 : decode cX7_init 6 = .ok (.putfield 7, 3) := dk_181 0 7 (dk_at dksX7_init_0 6 rfl rfl)
theorem dX7_init_9 : decode cX7_init 9 = .ok (.return_, 1) := dk_177 (dk_at dksX7_init_0 9 rfl rfl)
theorem q50 : (Jvm.Cond.initialized "CakesToTheWatched$Broken") ∈ lw_all := lw_g (lw_at lw_m1 12 rfl) rfl
theorem q97 : (Jvm.Cond.selects "CakesToTheWatched$Broken" ({ cls := "java/lang/Throwable", name := "fillInStackTrace", desc := "()Ljava/lang/Throwable;" } : Jvm.MethodName) ({ cls := "java/lang/Throwable", name := "fillInStackTrace", desc := "()Ljava/lang/Throwable;" } : Jvm.MethodName)) ∈ lw_all := lw_g (lw_at lw_m1 59 rfl) rfl
theorem q242 : (Jvm.Cond.instantiable "CakesToTheWatched$Broken" (7 : Nat)) ∈ lw_all := lw_g (lw_at lw_m1 204 rfl) rfl
theorem q243 : (Jvm.Cond.castable "CakesToTheWatched$Broken" "CakesToTheWatched$Broken") ∈ lw_tbl := lw_at lw_m1 205 rfl
theorem q244 : (Jvm.Cond.selects "CakesToTheWatched$Broken" ({ cls := "java/lang/Throwable", name := "fillInStackTrace", desc := "(I)Ljava/lang/Throwable;" } : Jvm.MethodName) ({ cls := "java/lang/Throwable", name := "fillInStackTrace", desc := "(I)Ljava/lang/Throwable;" } : Jvm.MethodName)) ∈ lw_all := lw_g (lw_at lw_m1 206 rfl) rfl
theorem q245 : (Jvm.Cond.lays "CakesToTheWatched$Broken" "java/lang/Throwable" "cause" "Ljava/lang/Throwable;") ∈ lw_all := lw_g (lw_at lw_m1 207 rfl) rfl
theorem q246 : (Jvm.Cond.lays "CakesToTheWatched$Broken" "java/lang/Throwable" "stackTrace" "[Ljava/lang/StackTraceElement;") ∈ lw_all := lw_g (lw_at lw_m1 208 rfl) rfl
theorem q247 : (Jvm.Cond.lays "CakesToTheWatched$Broken" "java/lang/Throwable" "suppressedExceptions" "Ljava/util/List;") ∈ lw_all := lw_g (lw_at lw_m1 209 rfl) rfl
theorem q248 : (Jvm.Cond.lays "CakesToTheWatched$Broken" "java/lang/Throwable" "detailMessage" "Ljava/lang/String;") ∈ lw_all := lw_g (lw_at lw_m1 210 rfl) rfl
theorem q249 : (Jvm.Cond.lays "CakesToTheWatched$Broken" "java/lang/Throwable" "backtrace" "Ljava/lang/Object;") ∈ lw_all := lw_g (lw_at lw_m1 211 rfl) rfl
theorem q251 : (Jvm.Cond.instanceMethod ({ cls := "CakesToTheWatched$Broken", name := "<init>", desc := "(I)V" } : Jvm.MethodName)) ∈ lw_all := lw_g (lw_at lw_m1 213 rfl) rfl
theorem q252 : (Jvm.Cond.code ({ cls := "CakesToTheWatched$Broken", name := "<init>", desc := "(I)V" } : Jvm.MethodName) prog_4_method_1_code (2 : Nat) (Option.none : Option Jvm.ClassFile.FieldType)) ∈ lw_all := lw_g (lw_at lw_m1 214 rfl) rfl
theorem q253 : (Jvm.Cond.methodLink "CakesToTheWatched$Broken" (1 : Nat) ({ cls := "java/lang/Exception", name := "<init>", desc := "()V" } : Jvm.MethodName)) ∈ lw_all := lw_g (lw_at lw_m1 215 rfl) rfl
theorem q257 : (Jvm.Cond.fieldLink "CakesToTheWatched$Broken" (7 : Nat) "CakesToTheWatched$Broken" "code" "I") ∈ lw_all := lw_g (lw_at lw_m1 219 rfl) rfl
theorem q259 : (Jvm.Cond.laysFinal "CakesToTheWatched$Broken" "CakesToTheWatched$Broken" "code" "I") ∈ lw_all := lw_g (lw_at lw_m1 221 rfl) rfl
theorem q260 : (Jvm.Cond.soleField "CakesToTheWatched$Broken" "code") ∈ lw_all := lw_g (lw_at lw_m1 222 rfl) rfl
theorem q261 : (Jvm.Cond.lays "CakesToTheWatched$Broken" "java/lang/Throwable" "depth" "I") ∈ lw_all := lw_g (lw_at lw_m1 223 rfl) rfl
theorem q262 : (Jvm.Cond.superclass "CakesToTheWatched$Broken" "java/lang/Exception") ∈ lw_all := lw_g (lw_at lw_m1 224 rfl) rfl
theorem in_X7 : ∀ w ∈ wsX70, w ∈ lw_all := lw_in wsX70 [245, 246, 247, 248, 249, 261, 259] (by decide +kernel) (by decide +kernel)

/-! CakesToTheWatched$Guest -/
set_option maxRecDepth 100000
def RX8 : String := "CakesToTheWatched$Guest"
def TX8 : u_T := fun k => match k with
  | _ => ("CakesToTheWatched$Guest", "figure", "I", true)
def tyX8 : Nat → FieldType := fun k => match k with
  | _ => .int
abbrev wsX80 : List Cond := u_ws RX8 TX8 1
theorem nmX8 : ∀ a, a < 1 → ∀ b, b < 1 → a ≠ b → (TX8 a).2.1 ≠ (TX8 b).2.1 := by decide +kernel
theorem tyX8_ok : ∀ k, k < 1 → parseFieldDescriptor (TX8 k).2.2.1 = some (tyX8 k) := by decide +kernel
abbrev cX8_init : ByteArray := prog_13_method_1_code
def yX8_init : MethodName := ⟨RX8, "<init>", "(I)V"⟩
def dkwX8_init_0 : List UInt8 := [42, 183, 0, 1, 42, 27, 181, 0, 7, 177]
abbrev dktX8_init_0 : List UInt8 := dkwX8_init_0 ++ []
theorem dksX8_init_0 : cX8_init.data.toList.drop 0 = dktX8_init_0 := by decide +kernel
theorem dX8_init_0 : decode cX8_init 0 = .ok (.aload_n 0, 1) := dk_42 (dk_at dksX8_init_0 0 rfl rfl)
theorem dX8_init_1 : decode cX8_init 1 = .ok (.invokespecial 1, 3) := dk_183 0 1 (dk_at dksX8_init_0 1 rfl rfl)
theorem dX8_init_4 : decode cX8_init 4 = .ok (.aload_n 0, 1) := dk_42 (dk_at dksX8_init_0 4 rfl rfl)
theorem dX8_init_5 : decode cX8_init 5 = .ok (.iload_n 1, 1) := dk_27 (dk_at dksX8_init_0 5 rfl rfl)
theorem dX8_init_6 : decode cX8_init 6 = .ok (.putfield 7, 3) := dk_181 0 7 (dk_at dksX8_init_0 6 rfl rfl)
theorem dX8_init_9 : decode cX8_init 9 = .ok (.return_, 1) := dk_177 (dk_at dksX8_init_0 9 rfl rfl)
abbrev cX8_kind : ByteArray := prog_13_method_2_code
def yX8_kind : MethodName := ⟨RX8, "kind", "()I"⟩
theorem dX8_kind_0 : decode cX8_kind 0 = .ok (.iconst 0, 1) := by decide +kernel
theorem dX8_kind_1 : decode cX8_kind 1 = .ok (.ireturn, 1) := by decide +kernel
abbrev cX8_cost : ByteArray := prog_13_method_3_code
def yX8_cost : MethodName := ⟨RX8, "cost", "()I"⟩
theorem dX8_cost_0 : decode cX8_cost 0 = .ok (.iconst 4, 1) := by decide +kernel
theorem dX8_cost_1 : decode cX8_cost 1 = .ok (.ireturn, 1) := by decide +kernel
abbrev cX8_failure : ByteArray := prog_13_method_4_code
def yX8_failure : MethodName := ⟨RX8, "failure", "()LCakesToTheWatched$Tossed;"⟩
def dkwX8_failure_0 : List UInt8 := [42, 180, 0, 7, 154, 0, 7, 1, 167, 0, 14, 187, 0, 13, 89, 42, 180, 0, 7, 183, 0, 15, 176]
abbrev dktX8_failure_0 : List UInt8 := dkwX8_failure_0 ++ []
theorem dksX8_failure_0 : cX8_failure.data.toList.drop 0 = dktX8_failure_0 := by decide +kernel
theorem dX8_failure_0 : decode cX8_failure 0 = .ok (.aload_n 0, 1) := dk_42 (dk_at dksX8_failure_0 0 rfl rfl)
theorem dX8_failure_1 : decode cX8_failure 1 = .ok (.getfield 7, 3) := dk_180 0 7 (dk_at dksX8_failure_0 1 rfl rfl)
theorem dX8_failure_4 : decode cX8_failure 4 = .ok (.ifCond .ne 7, 3) := dk_154 0 7 (dk_at dksX8_failure_0 4 rfl rfl)
theorem dX8_failure_7 : decode cX8_failure 7 = .ok (.aconst_null, 1) := dk_1 (dk_at dksX8_failure_0 7 rfl rfl)
theorem dX8_failure_8 : decode cX8_failure 8 = .ok (.goto 14, 3) := dk_167 0 14 (dk_at dksX8_failure_0 8 rfl rfl)
theorem dX8_failure_11 : decode cX8_failure 11 = .ok (.new 13, 3) := dk_187 0 13 (dk_at dksX8_failure_0 11 rfl rfl)
theorem dX8_failure_14 : decode cX8_failure 14 = .ok (.dup, 1) := dk_89 (dk_at dksX8_failure_0 14 rfl rfl)
theorem dX8_failure_15 : decode cX8_failure 15 = .ok (.aload_n 0, 1) := dk_42 (dk_at dksX8_failure_0 15 rfl rfl)
theorem dX8_failure_16 : decode cX8_failure 16 = .ok (.getfield 7, 3) := dk_180 0 7 (dk_at dksX8_failure_0 16 rfl rfl)
theorem dX8_failure_19 : decode cX8_failure 19 = .ok (.invokespecial 15, 3) := dk_183 0 15 (dk_at dksX8_failure_0 19 rfl rfl)
theorem dX8_failure_22 : decode cX8_failure 22 = .ok (.areturn, 1) := dk_176 (dk_at dksX8_failure_0 22 rfl rfl)
theorem q52 : (Jvm.Cond.initialized "CakesToTheWatched$Guest") ∈ lw_all := lw_g (lw_at lw_m1 14 rfl) rfl
theorem q288 : (Jvm.Cond.instantiable "CakesToTheWatched$Guest" (1 : Nat)) ∈ lw_all := lw_g (lw_at lw_m2 10 rfl) rfl
theorem q290 : (Jvm.Cond.instanceMethod ({ cls := "CakesToTheWatched$Guest", name := "<init>", desc := "(I)V" } : Jvm.MethodName)) ∈ lw_all := lw_g (lw_at lw_m2 12 rfl) rfl
theorem q291 : (Jvm.Cond.code ({ cls := "CakesToTheWatched$Guest", name := "<init>", desc := "(I)V" } : Jvm.MethodName) prog_13_method_1_code (2 : Nat) (Option.none : Option Jvm.ClassFile.FieldType)) ∈ lw_all := lw_g (lw_at lw_m2 13 rfl) rfl
theorem q292 : (Jvm.Cond.methodLink "CakesToTheWatched$Guest" (1 : Nat) ({ cls := "java/lang/Object", name := "<init>", desc := "()V" } : Jvm.MethodName)) ∈ lw_all := lw_g (lw_at lw_m2 14 rfl) rfl
theorem q293 : (Jvm.Cond.fieldLink "CakesToTheWatched$Guest" (7 : Nat) "CakesToTheWatched$Guest" "figure" "I") ∈ lw_all := lw_g (lw_at lw_m2 15 rfl) rfl
theorem q301 : (Jvm.Cond.laysFinal "CakesToTheWatched$Guest" "CakesToTheWatched$Guest" "figure" "I") ∈ lw_all := lw_g (lw_at lw_m2 23 rfl) rfl
theorem q302 : (Jvm.Cond.soleField "CakesToTheWatched$Guest" "figure") ∈ lw_all := lw_g (lw_at lw_m2 24 rfl) rfl
theorem q303 : (Jvm.Cond.superclass "CakesToTheWatched$Guest" "java/lang/Object") ∈ lw_all := lw_g (lw_at lw_m2 25 rfl) rfl
theorem q392 : (Jvm.Cond.unhidden "CakesToTheWatched$Guest" "sees" "()Z") ∈ lw_tbl := lw_at lw_m2 114 rfl
theorem q433 : (Jvm.Cond.unhidden "CakesToTheWatched$Guest" "bite" "()I") ∈ lw_tbl := lw_at lw_m2 155 rfl
theorem q453 : (Jvm.Cond.unhidden "CakesToTheWatched$Guest" "shy" "()I") ∈ lw_tbl := lw_at lw_m2 175 rfl
theorem q490 : (Jvm.Cond.unhidden "CakesToTheWatched$Guest" "gaze" "()I") ∈ lw_tbl := lw_at lw_m2 212 rfl
theorem q504 : (Jvm.Cond.instanceMethod ({ cls := "CakesToTheWatched$Guest", name := "kind", desc := "()I" } : Jvm.MethodName)) ∈ lw_all := lw_g (lw_at lw_m2 226 rfl) rfl
theorem q505 : (Jvm.Cond.selects "CakesToTheWatched$Guest" ({ cls := "CakesToTheWatched$Guest", name := "kind", desc := "()I" } : Jvm.MethodName) ({ cls := "CakesToTheWatched$Guest", name := "kind", desc := "()I" } : Jvm.MethodName)) ∈ lw_all := lw_g (lw_at lw_m2 227 rfl) rfl
theorem q506 : (Jvm.Cond.sameMethod "CakesToTheWatched$Guest" "CakesToTheWatched$Guest" "kind" "()I") ∈ lw_all := lw_g (lw_at lw_m2 228 rfl) rfl
theorem q528 : (Jvm.Cond.code ({ cls := "CakesToTheWatched$Guest", name := "kind", desc := "()I" } : Jvm.MethodName) prog_13_method_2_code (1 : Nat) (Option.some Jvm.ClassFile.FieldType.int)) ∈ lw_all := lw_g (lw_at lw_m3 10 rfl) rfl
theorem q945 : (Jvm.Cond.instanceMethod ({ cls := "CakesToTheWatched$Guest", name := "cost", desc := "()I" } : Jvm.MethodName)) ∈ lw_all := lw_g (lw_at lw_m4 187 rfl) rfl
theorem q946 : (Jvm.Cond.selects "CakesToTheWatched$Guest" ({ cls := "CakesToTheWatched$Guest", name := "cost", desc := "()I" } : Jvm.MethodName) ({ cls := "CakesToTheWatched$Guest", name := "cost", desc := "()I" } : Jvm.MethodName)) ∈ lw_all := lw_g (lw_at lw_m4 188 rfl) rfl
theorem q947 : (Jvm.Cond.sameMethod "CakesToTheWatched$Guest" "CakesToTheWatched$Guest" "cost" "()I") ∈ lw_all := lw_g (lw_at lw_m4 189 rfl) rfl
theorem q952 : (Jvm.Cond.code ({ cls := "CakesToTheWatched$Guest", name := "cost", desc := "()I" } : Jvm.MethodName) prog_13_method_3_code (1 : Nat) (Option.some Jvm.ClassFile.FieldType.int)) ∈ lw_all := lw_g (lw_at lw_m4 194 rfl) rfl
theorem q982 : (Jvm.Cond.instanceMethod ({ cls := "CakesToTheWatched$Guest", name := "failure", desc := "()LCakesToTheWatched$Tossed;" } : Jvm.MethodName)) ∈ lw_all := lw_g (lw_at lw_m4 224 rfl) rfl
theorem q983 : (Jvm.Cond.selects "CakesToTheWatched$Guest" ({ cls := "CakesToTheWatched$Guest", name := "failure", desc := "()LCakesToTheWatched$Tossed;" } : Jvm.MethodName) ({ cls := "CakesToTheWatched$Guest", name := "failure", desc := "()LCakesToTheWatched$Tossed;" } : Jvm.MethodName)) ∈ lw_all := lw_g (lw_at lw_m4 225 rfl) rfl
theorem q984 : (Jvm.Cond.sameMethod "CakesToTheWatched$Guest" "CakesToTheWatched$Guest" "failure" "()LCakesToTheWatched$Tossed;") ∈ lw_all := lw_g (lw_at lw_m4 226 rfl) rfl
theorem q1000 : (Jvm.Cond.code ({ cls := "CakesToTheWatched$Guest", name := "failure", desc := "()LCakesToTheWatched$Tossed;" } : Jvm.MethodName) prog_13_method_4_code (1 : Nat) (Option.some (Jvm.ClassFile.FieldType.object "CakesToTheWatched$Tossed"))) ∈ lw_all := lw_g (lw_at lw_m5 2 rfl) rfl
theorem q1001 : (Jvm.Cond.classLink "CakesToTheWatched$Guest" (13 : Nat) "CakesToTheWatched$Tossed") ∈ lw_all := lw_g (lw_at lw_m5 3 rfl) rfl
theorem q1010 : (Jvm.Cond.methodLink "CakesToTheWatched$Guest" (15 : Nat) ({ cls := "CakesToTheWatched$Tossed", name := "<init>", desc := "(I)V" } : Jvm.MethodName)) ∈ lw_all := lw_g (lw_at lw_m5 12 rfl) rfl
theorem in_X8 : ∀ w ∈ wsX80, w ∈ lw_all := lw_in wsX80 [301] (by decide +kernel) (by decide +kernel)

/-! CakesToTheWatched$Child -/
set_option maxRecDepth 100000
def RX9 : String := "CakesToTheWatched$Child"
def TX9 : u_T := fun k => match k with
  | _ => ("CakesToTheWatched$Guest", "figure", "I", true)
def tyX9 : Nat → FieldType := fun k => match k with
  | _ => .int
abbrev wsX90 : List Cond := u_ws RX9 TX9 1
theorem nmX9 : ∀ a, a < 1 → ∀ b, b < 1 → a ≠ b → (TX9 a).2.1 ≠ (TX9 b).2.1 := by decide +kernel
theorem tyX9_ok : ∀ k, k < 1 → parseFieldDescriptor (TX9 k).2.2.1 = some (tyX9 k) := by decide +kernel
abbrev cX9_init : ByteArray := prog_5_method_1_code
def yX9_init : MethodName := ⟨RX9, "<init>", "(I)V"⟩
def dkwX9_init_0 : List UInt8 := [42, 27, 183, 0, 3, 177]
abbrev dktX9_init_0 : List UInt8 := dkwX9_init_0 ++ []
theorem dksX9_init_0 : cX9_init.data.toList.drop 0 = dktX9_init_0 := by decide +kernel
theorem dX9_init_0 : decode cX9_init 0 = .ok (.aload_n 0, 1) := dk_42 (dk_at dksX9_init_0 0 rfl rfl)
theorem dX9_init_1 : decode cX9_init 1 = .ok (.iload_n 1, 1) := dk_27 (dk_at dksX9_init_0 1 rfl rfl)
theorem dX9_init_2 : decode cX9_init 2 = .ok (.invokespecial 3, 3) := dk_183 0 3 (dk_at dksX9_init_0 2 rfl rfl)
theorem dX9_init_5 : decode cX9_init 5 = .ok (.return_, 1) := dk_177 (dk_at dksX9_init_0 5 rfl rfl)
abbrev cX9_bite : ByteArray := prog_5_method_3_code
def yX9_bite : MethodName := ⟨RX9, "bite", "()I"⟩
def dkwX9_bite_0 : List UInt8 := [42, 183, 0, 9, 5, 96, 172]
abbrev dktX9_bite_0 : List UInt8 := dkwX9_bite_0 ++ []
theorem dksX9_bite_0 : cX9_bite.data.toList.drop 0 = dktX9_bite_0 := by decide +kernel
theorem dX9_bite_0 : decode cX9_bite 0 = .ok (.aload_n 0, 1) := dk_42 (dk_at dksX9_bite_0 0 rfl rfl)
theorem dX9_bite_1 : decode cX9_bite 1 = .ok (.invokespecial 9, 3) := dk_183 0 9 (dk_at dksX9_bite_0 1 rfl rfl)
theorem dX9_bite_4 : decode cX9_bite 4 = .ok (.iconst 2, 1) := dk_5 (dk_at dksX9_bite_0 4 rfl rfl)
theorem dX9_bite_5 : decode cX9_bite 5 = .ok (.iadd, 1) := dk_96 (dk_at dksX9_bite_0 5 rfl rfl)
theorem dX9_bite_6 : decode cX9_bite 6 = .ok (.ireturn, 1) := dk_172 (dk_at dksX9_bite_0 6 rfl rfl)
abbrev cX9_shy : ByteArray := prog_5_method_5_code
def yX9_shy : MethodName := ⟨RX9, "shy", "()I"⟩
theorem dX9_shy_0 : decode cX9_shy 0 = .ok (.iconst 1, 1) := by decide +kernel
theorem dX9_shy_1 : decode cX9_shy 1 = .ok (.ireturn, 1) := by decide +kernel
abbrev cX9_gaze : ByteArray := prog_5_method_4_code
def yX9_gaze : MethodName := ⟨RX9, "gaze", "()I"⟩
def dkwX9_gaze_0 : List UInt8 := [42, 183, 0, 13, 4, 100, 172]
abbrev dktX9_gaze_0 : List UInt8 := dkwX9_gaze_0 ++ []
theorem dksX9_gaze_0 : cX9_gaze.data.toList.drop 0 = dktX9_gaze_0 := by decide +kernel
theorem dX9_gaze_0 : decode cX9_gaze 0 = .ok (.aload_n 0, 1) := dk_42 (dk_at dksX9_gaze_0 0 rfl rfl)
theorem dX9_gaze_1 : decode cX9_gaze 1 = .ok (.invokespecial 13, 3) := dk_183 0 13 (dk_at dksX9_gaze_0 1 rfl rfl)
theorem dX9_gaze_4 : decode cX9_gaze 4 = .ok (.iconst 1, 1) := dk_4 (dk_at dksX9_gaze_0 4 rfl rfl)
theorem dX9_gaze_5 : decode cX9_gaze 5 = .ok (.isub, 1) := dk_100 (dk_at dksX9_gaze_0 5 rfl rfl)
theorem dX9_gaze_6 : decode cX9_gaze 6 = .ok (.ireturn, 1) := dk_172 (dk_at dksX9_gaze_0 6 rfl rfl)
abbrev cX9_kind : ByteArray := prog_5_method_2_code
def yX9_kind : MethodName := ⟨RX9, "kind", "()I"⟩
theorem dX9_kind_0 : decode cX9_kind 0 = .ok (.iconst 1, 1) := by decide +kernel
theorem dX9_kind_1 : decode cX9_kind 1 = .ok (.ireturn, 1) := by decide +kernel
abbrev cX9_cost : ByteArray := prog_5_method_6_code
def yX9_cost : MethodName := ⟨RX9, "cost", "()I"⟩
def dkwX9_cost_0 : List UInt8 := [42, 183, 0, 16, 4, 100, 172]
abbrev dktX9_cost_0 : List UInt8 := dkwX9_cost_0 ++ []
theorem dksX9_cost_0 : cX9_cost.data.toList.drop 0 = dktX9_cost_0 := by decide +kernel
theorem dX9_cost_0 : decode cX9_cost 0 = .ok (.aload_n 0, 1) := dk_42 (dk_at dksX9_cost_0 0 rfl rfl)
theorem dX9_cost_1 : decode cX9_cost 1 = .ok (.invokespecial 16, 3) := dk_183 0 16 (dk_at dksX9_cost_0 1 rfl rfl)
theorem dX9_cost_4 : decode cX9_cost 4 = .ok (.iconst 1, 1) := dk_4 (dk_at dksX9_cost_0 4 rfl rfl)
theorem dX9_cost_5 : decode cX9_cost 5 = .ok (.isub, 1) := dk_100 (dk_at dksX9_cost_0 5 rfl rfl)
theorem dX9_cost_6 : decode cX9_cost 6 = .ok (.ireturn, 1) := dk_172 (dk_at dksX9_cost_0 6 rfl rfl)
theorem q53 : (Jvm.Cond.initialized "CakesToTheWatched$Child") ∈ lw_all := lw_g (lw_at lw_m1 15 rfl) rfl
theorem q305 : (Jvm.Cond.instantiable "CakesToTheWatched$Child" (1 : Nat)) ∈ lw_all := lw_g (lw_at lw_m2 27 rfl) rfl
theorem q307 : (Jvm.Cond.instanceMethod ({ cls := "CakesToTheWatched$Child", name := "<init>", desc := "(I)V" } : Jvm.MethodName)) ∈ lw_all := lw_g (lw_at lw_m2 29 rfl) rfl
theorem q308 : (Jvm.Cond.code ({ cls := "CakesToTheWatched$Child", name := "<init>", desc := "(I)V" } : Jvm.MethodName) prog_5_method_1_code (2 : Nat) (Option.none : Option Jvm.ClassFile.FieldType)) ∈ lw_all := lw_g (lw_at lw_m2 30 rfl) rfl
theorem q309 : (Jvm.Cond.methodLink "CakesToTheWatched$Child" (3 : Nat) ({ cls := "CakesToTheWatched$Guest", name := "<init>", desc := "(I)V" } : Jvm.MethodName)) ∈ lw_all := lw_g (lw_at lw_m2 31 rfl) rfl
theorem q310 : (Jvm.Cond.laysFinal "CakesToTheWatched$Child" "CakesToTheWatched$Guest" "figure" "I") ∈ lw_all := lw_g (lw_at lw_m2 32 rfl) rfl
theorem q311 : (Jvm.Cond.superclass "CakesToTheWatched$Child" "CakesToTheWatched$Guest") ∈ lw_all := lw_g (lw_at lw_m2 33 rfl) rfl
theorem q388 : (Jvm.Cond.unhidden "CakesToTheWatched$Child" "sees" "()Z") ∈ lw_tbl := lw_at lw_m2 110 rfl
theorem q416 : (Jvm.Cond.selects "CakesToTheWatched$Child" ({ cls := "CakesToTheWatched$Eats", name := "bite", desc := "()I" } : Jvm.MethodName) ({ cls := "CakesToTheWatched$Child", name := "bite", desc := "()I" } : Jvm.MethodName)) ∈ lw_all := lw_g (lw_at lw_m2 138 rfl) rfl
theorem q417 : (Jvm.Cond.instanceMethod ({ cls := "CakesToTheWatched$Child", name := "bite", desc := "()I" } : Jvm.MethodName)) ∈ lw_all := lw_g (lw_at lw_m2 139 rfl) rfl
theorem q418 : (Jvm.Cond.code ({ cls := "CakesToTheWatched$Child", name := "bite", desc := "()I" } : Jvm.MethodName) prog_5_method_3_code (1 : Nat) (Option.some Jvm.ClassFile.FieldType.int)) ∈ lw_all := lw_g (lw_at lw_m2 140 rfl) rfl
theorem q445 : (Jvm.Cond.selects "CakesToTheWatched$Child" ({ cls := "CakesToTheWatched$Blushes", name := "shy", desc := "()I" } : Jvm.MethodName) ({ cls := "CakesToTheWatched$Child", name := "shy", desc := "()I" } : Jvm.MethodName)) ∈ lw_all := lw_g (lw_at lw_m2 167 rfl) rfl
theorem q446 : (Jvm.Cond.instanceMethod ({ cls := "CakesToTheWatched$Child", name := "shy", desc := "()I" } : Jvm.MethodName)) ∈ lw_all := lw_g (lw_at lw_m2 168 rfl) rfl
theorem q447 : (Jvm.Cond.code ({ cls := "CakesToTheWatched$Child", name := "shy", desc := "()I" } : Jvm.MethodName) prog_5_method_5_code (1 : Nat) (Option.some Jvm.ClassFile.FieldType.int)) ∈ lw_all := lw_g (lw_at lw_m2 169 rfl) rfl
theorem q473 : (Jvm.Cond.selects "CakesToTheWatched$Child" ({ cls := "CakesToTheWatched$Looks", name := "gaze", desc := "()I" } : Jvm.MethodName) ({ cls := "CakesToTheWatched$Child", name := "gaze", desc := "()I" } : Jvm.MethodName)) ∈ lw_all := lw_g (lw_at lw_m2 195 rfl) rfl
theorem q474 : (Jvm.Cond.instanceMethod ({ cls := "CakesToTheWatched$Child", name := "gaze", desc := "()I" } : Jvm.MethodName)) ∈ lw_all := lw_g (lw_at lw_m2 196 rfl) rfl
theorem q475 : (Jvm.Cond.code ({ cls := "CakesToTheWatched$Child", name := "gaze", desc := "()I" } : Jvm.MethodName) prog_5_method_4_code (1 : Nat) (Option.some Jvm.ClassFile.FieldType.int)) ∈ lw_all := lw_g (lw_at lw_m2 197 rfl) rfl
theorem q510 : (Jvm.Cond.selects "CakesToTheWatched$Child" ({ cls := "CakesToTheWatched$Guest", name := "kind", desc := "()I" } : Jvm.MethodName) ({ cls := "CakesToTheWatched$Child", name := "kind", desc := "()I" } : Jvm.MethodName)) ∈ lw_all := lw_g (lw_at lw_m2 232 rfl) rfl
theorem q511 : (Jvm.Cond.instanceMethod ({ cls := "CakesToTheWatched$Child", name := "kind", desc := "()I" } : Jvm.MethodName)) ∈ lw_all := lw_g (lw_at lw_m2 233 rfl) rfl
theorem q512 : (Jvm.Cond.code ({ cls := "CakesToTheWatched$Child", name := "kind", desc := "()I" } : Jvm.MethodName) prog_5_method_2_code (1 : Nat) (Option.some Jvm.ClassFile.FieldType.int)) ∈ lw_all := lw_g (lw_at lw_m2 234 rfl) rfl
theorem q953 : (Jvm.Cond.selects "CakesToTheWatched$Child" ({ cls := "CakesToTheWatched$Guest", name := "cost", desc := "()I" } : Jvm.MethodName) ({ cls := "CakesToTheWatched$Child", name := "cost", desc := "()I" } : Jvm.MethodName)) ∈ lw_all := lw_g (lw_at lw_m4 195 rfl) rfl
theorem q954 : (Jvm.Cond.instanceMethod ({ cls := "CakesToTheWatched$Child", name := "cost", desc := "()I" } : Jvm.MethodName)) ∈ lw_all := lw_g (lw_at lw_m4 196 rfl) rfl
theorem q955 : (Jvm.Cond.code ({ cls := "CakesToTheWatched$Child", name := "cost", desc := "()I" } : Jvm.MethodName) prog_5_method_6_code (1 : Nat) (Option.some Jvm.ClassFile.FieldType.int)) ∈ lw_all := lw_g (lw_at lw_m4 197 rfl) rfl
theorem q956 : (Jvm.Cond.methodLink "CakesToTheWatched$Child" (16 : Nat) ({ cls := "CakesToTheWatched$Guest", name := "cost", desc := "()I" } : Jvm.MethodName)) ∈ lw_all := lw_g (lw_at lw_m4 198 rfl) rfl
theorem q988 : (Jvm.Cond.selects "CakesToTheWatched$Child" ({ cls := "CakesToTheWatched$Guest", name := "failure", desc := "()LCakesToTheWatched$Tossed;" } : Jvm.MethodName) ({ cls := "CakesToTheWatched$Guest", name := "failure", desc := "()LCakesToTheWatched$Tossed;" } : Jvm.MethodName)) ∈ lw_all := lw_g (lw_at lw_m4 230 rfl) rfl
theorem q1438 : (Jvm.Cond.sameMethod "CakesToTheWatched$Child" "CakesToTheWatched$Child" "bite" "()I") ∈ lw_all := lw_g (lw_at lw_m6 200 rfl) rfl
theorem q1439 : (Jvm.Cond.sameMethod "CakesToTheWatched$Child" "CakesToTheWatched$Child" "shy" "()I") ∈ lw_all := lw_g (lw_at lw_m6 201 rfl) rfl
theorem q1442 : (Jvm.Cond.sameMethod "CakesToTheWatched$Child" "CakesToTheWatched$Child" "cost" "()I") ∈ lw_all := lw_g (lw_at lw_m6 204 rfl) rfl
theorem q1450 : (Jvm.Cond.castable "CakesToTheWatched$Child" "CakesToTheWatched$Guest") ∈ lw_tbl := lw_at lw_m6 212 rfl
theorem in_X9 : ∀ w ∈ wsX90, w ∈ lw_all := lw_in wsX90 [310] (by decide +kernel) (by decide +kernel)

theorem q51 : (Jvm.Cond.initialized "java/lang/System") ∈ lw_all := lw_g (lw_at lw_m1 13 rfl) rfl
set_option maxRecDepth 100000
theorem q272 : (Jvm.Cond.static ({ cls := "java/lang/System", name := "arraycopy", desc := "(Ljava/lang/Object;ILjava/lang/Object;II)V" } : Jvm.MethodName)) ∈ lw_all := lw_g (lw_at lw_m1 234 rfl) rfl
theorem q273 : (Jvm.Cond.native ({ cls := "java/lang/System", name := "arraycopy", desc := "(Ljava/lang/Object;ILjava/lang/Object;II)V" } : Jvm.MethodName)) ∈ lw_all := lw_g (lw_at lw_m1 235 rfl) rfl

theorem q160 : (Jvm.Cond.arrayClass Jvm.ClassFile.FieldType.byte) ∈ lw_all := lw_g (lw_at lw_m1 122 rfl) rfl
set_option maxRecDepth 100000
theorem q227 : (Jvm.Cond.arrayClass Jvm.ClassFile.FieldType.int) ∈ lw_all := lw_g (lw_at lw_m1 189 rfl) rfl
theorem q791 : (Jvm.Cond.arrayOver (Jvm.ClassFile.FieldType.object "CakesToTheWatched$Guest")) ∈ lw_tbl := lw_at lw_m4 33 rfl
theorem q826 : (Jvm.Cond.arrayOver (Jvm.ClassFile.FieldType.object "CakesToTheWatched$Told")) ∈ lw_tbl := lw_at lw_m4 68 rfl
theorem q828 : (Jvm.Cond.arrayOver (Jvm.ClassFile.FieldType.object "CakesToTheWatched$Shelf")) ∈ lw_tbl := lw_at lw_m4 70 rfl
theorem q888 : (Jvm.Cond.arrayClass Jvm.ClassFile.FieldType.short) ∈ lw_all := lw_g (lw_at lw_m4 130 rfl) rfl
theorem q1435 : (Jvm.Cond.arrayClass Jvm.ClassFile.FieldType.long) ∈ lw_all := lw_g (lw_at lw_m6 197 rfl) rfl
