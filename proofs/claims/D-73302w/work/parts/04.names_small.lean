/-! java/lang/Throwable -/
set_option maxRecDepth 100000
def RJ0 : String := "java/lang/Throwable"
def TJ0 : u_T := fun k => match k with
  | 0 => ("java/lang/Throwable", "cause", "Ljava/lang/Throwable;", false)
  | 1 => ("java/lang/Throwable", "stackTrace", "[Ljava/lang/StackTraceElement;", false)
  | 2 => ("java/lang/Throwable", "suppressedExceptions", "Ljava/util/List;", false)
  | 3 => ("java/lang/Throwable", "detailMessage", "Ljava/lang/String;", false)
  | _ => ("java/lang/Throwable", "backtrace", "Ljava/lang/Object;", false)
def tyJ0 : Nat → FieldType := fun k => match k with
  | 0 => .object "java/lang/Throwable"
  | 1 => .array (.object "java/lang/StackTraceElement")
  | 2 => .object "java/util/List"
  | 3 => .object "java/lang/String"
  | _ => .object "java/lang/Object"
abbrev wsJ00 : List Cond := u_ws RJ0 TJ0 5
theorem nmJ0 : ∀ a, a < 5 → ∀ b, b < 5 → a ≠ b → (TJ0 a).2.1 ≠ (TJ0 b).2.1 := by decide +kernel
theorem tyJ0_ok : ∀ k, k < 5 → parseFieldDescriptor (TJ0 k).2.2.1 = some (tyJ0 k) := by decide +kernel
abbrev cJ0_init : ByteArray := prog_66_method_1_code
def yJ0_init : MethodName := ⟨RJ0, "<init>", "()V"⟩
def dkwJ0_init_1 : List UInt8 := [182, 0, 27, 87, 177]
abbrev dktJ0_init_1 : List UInt8 := dkwJ0_init_1 ++ []
def dkwJ0_init_0 : List UInt8 := [42, 183, 0, 1, 42, 42, 181, 0, 7, 42, 178, 0, 13, 181, 0, 17, 42, 178, 0, 20, 181, 0, 24, 42]
abbrev dktJ0_init_0 : List UInt8 := dkwJ0_init_0 ++ dktJ0_init_1
theorem dksJ0_init_0 : cJ0_init.data.toList.drop 0 = dktJ0_init_0 := by decide +kernel
theorem dksJ0_init_1 : cJ0_init.data.toList.drop 24 = dktJ0_init_1 := dk_seg dksJ0_init_0 24 rfl rfl
theorem dJ0_init_0 : decode cJ0_init 0 = .ok (.aload_n 0, 1) := dk_42 (dk_at dksJ0_init_0 0 rfl rfl)
theorem dJ0_init_1 : decode cJ0_init 1 = .ok (.invokespecial 1, 3) := dk_183 0 1 (dk_at dksJ0_init_0 1 rfl rfl)
theorem dJ0_init_4 : decode cJ0_init 4 = .ok (.aload_n 0, 1) := dk_42 (dk_at dksJ0_init_0 4 rfl rfl)
theorem dJ0_init_5 : decode cJ0_init 5 = .ok (.aload_n 0, 1) := dk_42 (dk_at dksJ0_init_0 5 rfl rfl)
theorem dJ0_init_6 : decode cJ0_init 6 = .ok (.putfield 7, 3) := dk_181 0 7 (dk_at dksJ0_init_0 6 rfl rfl)
theorem dJ0_init_9 : decode cJ0_init 9 = .ok (.aload_n 0, 1) := dk_42 (dk_at dksJ0_init_0 9 rfl rfl)
theorem dJ0_init_10 : decode cJ0_init 10 = .ok (.getstatic 13, 3) := dk_178 0 13 (dk_at dksJ0_init_0 10 rfl rfl)
theorem dJ0_init_13 : decode cJ0_init 13 = .ok (.putfield 17, 3) := dk_181 0 17 (dk_at dksJ0_init_0 13 rfl rfl)
theorem dJ0_init_16 : decode cJ0_init 16 = .ok (.aload_n 0, 1) := dk_42 (dk_at dksJ0_init_0 16 rfl rfl)
theorem dJ0_init_17 : decode cJ0_init 17 = .ok (.getstatic 20, 3) := dk_178 0 20 (dk_at dksJ0_init_0 17 rfl rfl)
theorem dJ0_init_20 : decode cJ0_init 20 = .ok (.putfield 24, 3) := dk_181 0 24 (dk_at dksJ0_init_0 20 rfl rfl)
theorem dJ0_init_23 : decode cJ0_init 23 = .ok (.aload_n 0, 1) := dk_42 (dk_at dksJ0_init_0 23 rfl rfl)
theorem dJ0_init_24 : decode cJ0_init 24 = .ok (.invokevirtual 27, 3) := dk_182 0 27 (dk_at dksJ0_init_1 0 rfl rfl)
theorem dJ0_init_27 : decode cJ0_init 27 = .ok (.pop, 1) := dk_87 (dk_at dksJ0_init_1 3 rfl rfl)
theorem dJ0_init_28 : decode cJ0_init 28 = .ok (.return_, 1) := dk_177 (dk_at dksJ0_init_1 4 rfl rfl)
abbrev cJ0_init_2 : ByteArray := prog_66_method_2_code
def yJ0_init_2 : MethodName := ⟨RJ0, "<init>", "(Ljava/lang/String;)V"⟩
def dkwJ0_init_2_1 : List UInt8 := [182, 0, 27, 87, 42, 43, 181, 0, 31, 177]
abbrev dktJ0_init_2_1 : List UInt8 := dkwJ0_init_2_1 ++ []
def dkwJ0_init_2_0 : List UInt8 := [42, 183, 0, 1, 42, 42, 181, 0, 7, 42, 178, 0, 13, 181, 0, 17, 42, 178, 0, 20, 181, 0, 24, 42]
abbrev dktJ0_init_2_0 : List UInt8 := dkwJ0_init_2_0 ++ dktJ0_init_2_1
theorem dksJ0_init_2_0 : cJ0_init_2.data.toList.drop 0 = dktJ0_init_2_0 := by decide +kernel
theorem dksJ0_init_2_1 : cJ0_init_2.data.toList.drop 24 = dktJ0_init_2_1 := dk_seg dksJ0_init_2_0 24 rfl rfl
theorem dJ0_init_2_0 : decode cJ0_init_2 0 = .ok (.aload_n 0, 1) := dk_42 (dk_at dksJ0_init_2_0 0 rfl rfl)
theorem dJ0_init_2_1 : decode cJ0_init_2 1 = .ok (.invokespecial 1, 3) := dk_183 0 1 (dk_at dksJ0_init_2_0 1 rfl rfl)
theorem dJ0_init_2_4 : decode cJ0_init_2 4 = .ok (.aload_n 0, 1) := dk_42 (dk_at dksJ0_init_2_0 4 rfl rfl)
theorem dJ0_init_2_5 : decode cJ0_init_2 5 = .ok (.aload_n 0, 1) := dk_42 (dk_at dksJ0_init_2_0 5 rfl rfl)
theorem dJ0_init_2_6 : decode cJ0_init_2 6 = .ok (.putfield 7, 3) := dk_181 0 7 (dk_at dksJ0_init_2_0 6 rfl rfl)
theorem dJ0_init_2_9 : decode cJ0_init_2 9 = .ok (.aload_n 0, 1) := dk_42 (dk_at dksJ0_init_2_0 9 rfl rfl)
theorem dJ0_init_2_10 : decode cJ0_init_2 10 = .ok (.getstatic 13, 3) := dk_178 0 13 (dk_at dksJ0_init_2_0 10 rfl rfl)
theorem dJ0_init_2_13 : decode cJ0_init_2 13 = .ok (.putfield 17, 3) := dk_181 0 17 (dk_at dksJ0_init_2_0 13 rfl rfl)
theorem dJ0_init_2_16 : decode cJ0_init_2 16 = .ok (.aload_n 0, 1) := dk_42 (dk_at dksJ0_init_2_0 16 rfl rfl)
theorem dJ0_init_2_17 : decode cJ0_init_2 17 = .ok (.getstatic 20, 3) := dk_178 0 20 (dk_at dksJ0_init_2_0 17 rfl rfl)
theorem dJ0_init_2_20 : decode cJ0_init_2 20 = .ok (.putfield 24, 3) := dk_181 0 24 (dk_at dksJ0_init_2_0 20 rfl rfl)
theorem dJ0_init_2_23 : decode cJ0_init_2 23 = .ok (.aload_n 0, 1) := dk_42 (dk_at dksJ0_init_2_0 23 rfl rfl)
theorem dJ0_init_2_24 : decode cJ0_init_2 24 = .ok (.invokevirtual 27, 3) := dk_182 0 27 (dk_at dksJ0_init_2_1 0 rfl rfl)
theorem dJ0_init_2_27 : decode cJ0_init_2 27 = .ok (.pop, 1) := dk_87 (dk_at dksJ0_init_2_1 3 rfl rfl)
theorem dJ0_init_2_28 : decode cJ0_init_2 28 = .ok (.aload_n 0, 1) := dk_42 (dk_at dksJ0_init_2_1 4 rfl rfl)
theorem dJ0_init_2_29 : decode cJ0_init_2 29 = .ok (.aload_n 1, 1) := dk_43 (dk_at dksJ0_init_2_1 5 rfl rfl)
theorem dJ0_init_2_30 : decode cJ0_init_2 30 = .ok (.putfield 31, 3) := dk_181 0 31 (dk_at dksJ0_init_2_1 6 rfl rfl)
theorem dJ0_init_2_33 : decode cJ0_init_2 33 = .ok (.return_, 1) := dk_177 (dk_at dksJ0_init_2_1 9 rfl rfl)
theorem q64 : (Jvm.Cond.initialized "java/lang/Throwable") ∈ lw_all := lw_g (lw_at lw_m1 6 rfl) rfl
theorem q138 : (Jvm.Cond.declares ({ cls := "java/lang/Throwable", name := "<init>", desc := "()V" } : Jvm.MethodName)) ∈ lw_tbl := lw_at lw_m1 80 rfl
theorem q139 : (Jvm.Cond.declares ({ cls := "java/lang/Throwable", name := "<init>", desc := "(Ljava/lang/String;)V" } : Jvm.MethodName)) ∈ lw_tbl := lw_at lw_m1 81 rfl
theorem q143 : (Jvm.Cond.lays "java/lang/Throwable" "java/lang/Throwable" "cause" "Ljava/lang/Throwable;") ∈ lw_all := lw_g (lw_at lw_m1 85 rfl) rfl
theorem q145 : (Jvm.Cond.lays "java/lang/Throwable" "java/lang/Throwable" "stackTrace" "[Ljava/lang/StackTraceElement;") ∈ lw_all := lw_g (lw_at lw_m1 87 rfl) rfl
theorem q147 : (Jvm.Cond.lays "java/lang/Throwable" "java/lang/Throwable" "suppressedExceptions" "Ljava/util/List;") ∈ lw_all := lw_g (lw_at lw_m1 89 rfl) rfl
theorem q149 : (Jvm.Cond.lays "java/lang/Throwable" "java/lang/Throwable" "detailMessage" "Ljava/lang/String;") ∈ lw_all := lw_g (lw_at lw_m1 91 rfl) rfl
theorem q151 : (Jvm.Cond.lays "java/lang/Throwable" "java/lang/Throwable" "backtrace" "Ljava/lang/Object;") ∈ lw_all := lw_g (lw_at lw_m1 93 rfl) rfl
theorem q152 : (Jvm.Cond.fieldLink "java/lang/Throwable" (198 : Nat) "java/lang/Throwable" "backtrace" "Ljava/lang/Object;") ∈ lw_all := lw_g (lw_at lw_m1 94 rfl) rfl
theorem q153 : (Jvm.Cond.superclass "java/lang/Throwable" "java/lang/Object") ∈ lw_all := lw_g (lw_at lw_m1 95 rfl) rfl
theorem q154 : (Jvm.Cond.instanceMethod ({ cls := "java/lang/Throwable", name := "<init>", desc := "()V" } : Jvm.MethodName)) ∈ lw_all := lw_g (lw_at lw_m1 96 rfl) rfl
theorem q155 : (Jvm.Cond.code ({ cls := "java/lang/Throwable", name := "<init>", desc := "()V" } : Jvm.MethodName) prog_66_method_1_code (1 : Nat) (Option.none : Option Jvm.ClassFile.FieldType)) ∈ lw_all := lw_g (lw_at lw_m1 97 rfl) rfl
theorem q156 : (Jvm.Cond.methodLink "java/lang/Throwable" (1 : Nat) ({ cls := "java/lang/Object", name := "<init>", desc := "()V" } : Jvm.MethodName)) ∈ lw_all := lw_g (lw_at lw_m1 98 rfl) rfl
theorem q157 : (Jvm.Cond.fieldLink "java/lang/Throwable" (13 : Nat) "java/lang/Throwable" "UNASSIGNED_STACK" "[Ljava/lang/StackTraceElement;") ∈ lw_all := lw_g (lw_at lw_m1 99 rfl) rfl
theorem q158 : (Jvm.Cond.laysStatic "java/lang/Throwable" "UNASSIGNED_STACK" "[Ljava/lang/StackTraceElement;") ∈ lw_tbl := lw_at lw_m1 100 rfl
theorem q159 : (Jvm.Cond.fieldLink "java/lang/Throwable" (20 : Nat) "java/lang/Throwable" "SUPPRESSED_SENTINEL" "Ljava/util/List;") ∈ lw_all := lw_g (lw_at lw_m1 101 rfl) rfl
theorem q160 : (Jvm.Cond.laysStatic "java/lang/Throwable" "SUPPRESSED_SENTINEL" "Ljava/util/List;") ∈ lw_tbl := lw_at lw_m1 102 rfl
theorem q161 : (Jvm.Cond.methodLink "java/lang/Throwable" (27 : Nat) ({ cls := "java/lang/Throwable", name := "fillInStackTrace", desc := "()Ljava/lang/Throwable;" } : Jvm.MethodName)) ∈ lw_all := lw_g (lw_at lw_m1 103 rfl) rfl
theorem q162 : (Jvm.Cond.instanceMethod ({ cls := "java/lang/Throwable", name := "fillInStackTrace", desc := "()Ljava/lang/Throwable;" } : Jvm.MethodName)) ∈ lw_all := lw_g (lw_at lw_m1 104 rfl) rfl
theorem q163 : (Jvm.Cond.sameMethod "java/lang/Throwable" "java/lang/Throwable" "fillInStackTrace" "()Ljava/lang/Throwable;") ∈ lw_all := lw_g (lw_at lw_m1 105 rfl) rfl
theorem q167 : (Jvm.Cond.codeSync ({ cls := "java/lang/Throwable", name := "fillInStackTrace", desc := "()Ljava/lang/Throwable;" } : Jvm.MethodName) prog_66_method_18_code (1 : Nat) (Option.some (Jvm.ClassFile.FieldType.object "java/lang/Throwable"))) ∈ lw_all := lw_g (lw_at lw_m1 109 rfl) rfl
theorem q168 : (Jvm.Cond.methodLink "java/lang/Throwable" (202 : Nat) ({ cls := "java/lang/Throwable", name := "fillInStackTrace", desc := "(I)Ljava/lang/Throwable;" } : Jvm.MethodName)) ∈ lw_all := lw_g (lw_at lw_m1 110 rfl) rfl
theorem q169 : (Jvm.Cond.privateMethod ({ cls := "java/lang/Throwable", name := "fillInStackTrace", desc := "(I)Ljava/lang/Throwable;" } : Jvm.MethodName)) ∈ lw_tbl := lw_at lw_m1 111 rfl
theorem q170 : (Jvm.Cond.instanceMethod ({ cls := "java/lang/Throwable", name := "fillInStackTrace", desc := "(I)Ljava/lang/Throwable;" } : Jvm.MethodName)) ∈ lw_all := lw_g (lw_at lw_m1 112 rfl) rfl
theorem q171 : (Jvm.Cond.instantiable "java/lang/Throwable" (6 : Nat)) ∈ lw_all := lw_g (lw_at lw_m1 113 rfl) rfl
theorem q172 : (Jvm.Cond.native ({ cls := "java/lang/Throwable", name := "fillInStackTrace", desc := "(I)Ljava/lang/Throwable;" } : Jvm.MethodName)) ∈ lw_all := lw_g (lw_at lw_m1 114 rfl) rfl
theorem q182 : (Jvm.Cond.fieldLink "java/lang/Throwable" (198 : Nat) "java/lang/Throwable" "backtrace" "Ljava/lang/Object;") ∈ lw_all := lw_g (lw_at lw_m1 124 rfl) rfl
theorem q183 : (Jvm.Cond.fieldLink "java/lang/Throwable" (31 : Nat) "java/lang/Throwable" "detailMessage" "Ljava/lang/String;") ∈ lw_all := lw_g (lw_at lw_m1 125 rfl) rfl
theorem q184 : (Jvm.Cond.fieldLink "java/lang/Throwable" (7 : Nat) "java/lang/Throwable" "cause" "Ljava/lang/Throwable;") ∈ lw_all := lw_g (lw_at lw_m1 126 rfl) rfl
theorem q185 : (Jvm.Cond.fieldLink "java/lang/Throwable" (17 : Nat) "java/lang/Throwable" "stackTrace" "[Ljava/lang/StackTraceElement;") ∈ lw_all := lw_g (lw_at lw_m1 127 rfl) rfl
theorem q186 : (Jvm.Cond.fieldLink "java/lang/Throwable" (24 : Nat) "java/lang/Throwable" "suppressedExceptions" "Ljava/util/List;") ∈ lw_all := lw_g (lw_at lw_m1 128 rfl) rfl
theorem q189 : (Jvm.Cond.soleField "java/lang/Throwable" "backtrace") ∈ lw_all := lw_g (lw_at lw_m1 131 rfl) rfl
theorem q190 : (Jvm.Cond.soleField "java/lang/Throwable" "detailMessage") ∈ lw_all := lw_g (lw_at lw_m1 132 rfl) rfl
theorem q191 : (Jvm.Cond.soleField "java/lang/Throwable" "cause") ∈ lw_all := lw_g (lw_at lw_m1 133 rfl) rfl
theorem q192 : (Jvm.Cond.soleField "java/lang/Throwable" "stackTrace") ∈ lw_all := lw_g (lw_at lw_m1 134 rfl) rfl
theorem q194 : (Jvm.Cond.soleField "java/lang/Throwable" "depth") ∈ lw_all := lw_g (lw_at lw_m1 136 rfl) rfl
theorem q195 : (Jvm.Cond.soleField "java/lang/Throwable" "suppressedExceptions") ∈ lw_all := lw_g (lw_at lw_m1 137 rfl) rfl
theorem q1560 : (Jvm.Cond.instanceMethod ({ cls := "java/lang/Throwable", name := "<init>", desc := "(Ljava/lang/String;)V" } : Jvm.MethodName)) ∈ lw_all := lw_g (lw_at lw_m7 62 rfl) rfl
theorem q1561 : (Jvm.Cond.code ({ cls := "java/lang/Throwable", name := "<init>", desc := "(Ljava/lang/String;)V" } : Jvm.MethodName) prog_66_method_2_code (2 : Nat) (Option.none : Option Jvm.ClassFile.FieldType)) ∈ lw_all := lw_g (lw_at lw_m7 63 rfl) rfl
theorem q2160 : (Jvm.Cond.sameMethod "java/lang/Throwable" "java/lang/Throwable" "fillInStackTrace" "(I)Ljava/lang/Throwable;") ∈ lw_all := lw_g (lw_at lw_m9 182 rfl) rfl
theorem q2210 : (Jvm.Cond.castable "java/lang/Throwable" "java/lang/Object") ∈ lw_tbl := lw_at lw_m9 232 rfl
theorem in_J0 : ∀ w ∈ wsJ00, w ∈ lw_all := lw_in wsJ00 [143, 145, 147, 149, 151] (by decide +kernel) (by decide +kernel)
/-! java/lang/Exception -/
set_option maxRecDepth 100000
def RJ1 : String := "java/lang/Exception"
abbrev cJ1_init : ByteArray := prog_58_method_1_code
def yJ1_init : MethodName := ⟨RJ1, "<init>", "()V"⟩
theorem dJ1_init_0 : decode cJ1_init 0 = .ok (.aload_n 0, 1) := by decide +kernel
theorem dJ1_init_1 : decode cJ1_init 1 = .ok (.invokespecial 1, 3) := by decide +kernel
theorem dJ1_init_4 : decode cJ1_init 4 = .ok (.return_, 1) := by decide +kernel
abbrev cJ1_init_2 : ByteArray := prog_58_method_2_code
def yJ1_init_2 : MethodName := ⟨RJ1, "<init>", "(Ljava/lang/String;)V"⟩
def dkwJ1_init_2_0 : List UInt8 := [42, 43, 183, 0, 7, 177]
abbrev dktJ1_init_2_0 : List UInt8 := dkwJ1_init_2_0 ++ []
theorem dksJ1_init_2_0 : cJ1_init_2.data.toList.drop 0 = dktJ1_init_2_0 := by decide +kernel
theorem dJ1_init_2_0 : decode cJ1_init_2 0 = .ok (.aload_n 0, 1) := dk_42 (dk_at dksJ1_init_2_0 0 rfl rfl)
theorem dJ1_init_2_1 : decode cJ1_init_2 1 = .ok (.aload_n 1, 1) := dk_43 (dk_at dksJ1_init_2_0 1 rfl rfl)
theorem dJ1_init_2_2 : decode cJ1_init_2 2 = .ok (.invokespecial 7, 3) := dk_183 0 7 (dk_at dksJ1_init_2_0 2 rfl rfl)
theorem dJ1_init_2_5 : decode cJ1_init_2 5 = .ok (.return_, 1) := dk_177 (dk_at dksJ1_init_2_0 5 rfl rfl)
theorem q65 : (Jvm.Cond.initialized "java/lang/Exception") ∈ lw_all := lw_g (lw_at lw_m1 7 rfl) rfl
theorem q136 : (Jvm.Cond.declares ({ cls := "java/lang/Exception", name := "<init>", desc := "()V" } : Jvm.MethodName)) ∈ lw_tbl := lw_at lw_m1 78 rfl
theorem q137 : (Jvm.Cond.declares ({ cls := "java/lang/Exception", name := "<init>", desc := "(Ljava/lang/String;)V" } : Jvm.MethodName)) ∈ lw_tbl := lw_at lw_m1 79 rfl
theorem q177 : (Jvm.Cond.instanceMethod ({ cls := "java/lang/Exception", name := "<init>", desc := "()V" } : Jvm.MethodName)) ∈ lw_all := lw_g (lw_at lw_m1 119 rfl) rfl
theorem q178 : (Jvm.Cond.code ({ cls := "java/lang/Exception", name := "<init>", desc := "()V" } : Jvm.MethodName) prog_58_method_1_code (1 : Nat) (Option.none : Option Jvm.ClassFile.FieldType)) ∈ lw_all := lw_g (lw_at lw_m1 120 rfl) rfl
theorem q179 : (Jvm.Cond.methodLink "java/lang/Exception" (1 : Nat) ({ cls := "java/lang/Throwable", name := "<init>", desc := "()V" } : Jvm.MethodName)) ∈ lw_all := lw_g (lw_at lw_m1 121 rfl) rfl
theorem q1557 : (Jvm.Cond.instanceMethod ({ cls := "java/lang/Exception", name := "<init>", desc := "(Ljava/lang/String;)V" } : Jvm.MethodName)) ∈ lw_all := lw_g (lw_at lw_m7 59 rfl) rfl
theorem q1558 : (Jvm.Cond.code ({ cls := "java/lang/Exception", name := "<init>", desc := "(Ljava/lang/String;)V" } : Jvm.MethodName) prog_58_method_2_code (2 : Nat) (Option.none : Option Jvm.ClassFile.FieldType)) ∈ lw_all := lw_g (lw_at lw_m7 60 rfl) rfl
theorem q1559 : (Jvm.Cond.methodLink "java/lang/Exception" (7 : Nat) ({ cls := "java/lang/Throwable", name := "<init>", desc := "(Ljava/lang/String;)V" } : Jvm.MethodName)) ∈ lw_all := lw_g (lw_at lw_m7 61 rfl) rfl
/-! java/lang/Record -/
set_option maxRecDepth 100000
def RJ2 : String := "java/lang/Record"
abbrev cJ2_init : ByteArray := prog_62_method_1_code
def yJ2_init : MethodName := ⟨RJ2, "<init>", "()V"⟩
theorem dJ2_init_0 : decode cJ2_init 0 = .ok (.aload_n 0, 1) := by decide +kernel
theorem dJ2_init_1 : decode cJ2_init 1 = .ok (.invokespecial 1, 3) := by decide +kernel
theorem dJ2_init_4 : decode cJ2_init 4 = .ok (.return_, 1) := by decide +kernel
theorem q67 : (Jvm.Cond.initialized "java/lang/Record") ∈ lw_all := lw_g (lw_at lw_m1 9 rfl) rfl
theorem q268 : (Jvm.Cond.instanceMethod ({ cls := "java/lang/Record", name := "<init>", desc := "()V" } : Jvm.MethodName)) ∈ lw_all := lw_g (lw_at lw_m1 210 rfl) rfl
theorem q269 : (Jvm.Cond.code ({ cls := "java/lang/Record", name := "<init>", desc := "()V" } : Jvm.MethodName) prog_62_method_1_code (1 : Nat) (Option.none : Option Jvm.ClassFile.FieldType)) ∈ lw_all := lw_g (lw_at lw_m1 211 rfl) rfl
theorem q270 : (Jvm.Cond.methodLink "java/lang/Record" (1 : Nat) ({ cls := "java/lang/Object", name := "<init>", desc := "()V" } : Jvm.MethodName)) ∈ lw_all := lw_g (lw_at lw_m1 212 rfl) rfl
/-! java/lang/Float -/
set_option maxRecDepth 100000
def RJ3 : String := "java/lang/Float"
abbrev cJ3_floatToIntBits : ByteArray := prog_59_method_24_code
def yJ3_floatToIntBits : MethodName := ⟨RJ3, "floatToIntBits", "(F)I"⟩
def dkwJ3_floatToIntBits_0 : List UInt8 := [34, 184, 0, 59, 154, 0, 8, 34, 184, 0, 74, 172, 18, 77, 172]
abbrev dktJ3_floatToIntBits_0 : List UInt8 := dkwJ3_floatToIntBits_0 ++ []
theorem dksJ3_floatToIntBits_0 : cJ3_floatToIntBits.data.toList.drop 0 = dktJ3_floatToIntBits_0 := by decide +kernel
theorem dJ3_floatToIntBits_0 : decode cJ3_floatToIntBits 0 = .ok (.fload_n 0, 1) := dk_34 (dk_at dksJ3_floatToIntBits_0 0 rfl rfl)
theorem dJ3_floatToIntBits_1 : decode cJ3_floatToIntBits 1 = .ok (.invokestatic 59, 3) := dk_184 0 59 (dk_at dksJ3_floatToIntBits_0 1 rfl rfl)
theorem dJ3_floatToIntBits_4 : decode cJ3_floatToIntBits 4 = .ok (.ifCond .ne 8, 3) := dk_154 0 8 (dk_at dksJ3_floatToIntBits_0 4 rfl rfl)
theorem dJ3_floatToIntBits_7 : decode cJ3_floatToIntBits 7 = .ok (.fload_n 0, 1) := dk_34 (dk_at dksJ3_floatToIntBits_0 7 rfl rfl)
theorem dJ3_floatToIntBits_8 : decode cJ3_floatToIntBits 8 = .ok (.invokestatic 74, 3) := dk_184 0 74 (dk_at dksJ3_floatToIntBits_0 8 rfl rfl)
theorem dJ3_floatToIntBits_11 : decode cJ3_floatToIntBits 11 = .ok (.ireturn, 1) := dk_172 (dk_at dksJ3_floatToIntBits_0 11 rfl rfl)
theorem dJ3_floatToIntBits_12 : decode cJ3_floatToIntBits 12 = .ok (.ldc 77, 2) := dk_18 77 (dk_at dksJ3_floatToIntBits_0 12 rfl rfl)
theorem dJ3_floatToIntBits_14 : decode cJ3_floatToIntBits 14 = .ok (.ireturn, 1) := dk_172 (dk_at dksJ3_floatToIntBits_0 14 rfl rfl)
abbrev cJ3_isNaN : ByteArray := prog_59_method_6_code
def yJ3_isNaN : MethodName := ⟨RJ3, "isNaN", "(F)Z"⟩
def dkwJ3_isNaN_0 : List UInt8 := [34, 34, 149, 153, 0, 7, 4, 167, 0, 4, 3, 172]
abbrev dktJ3_isNaN_0 : List UInt8 := dkwJ3_isNaN_0 ++ []
theorem dksJ3_isNaN_0 : cJ3_isNaN.data.toList.drop 0 = dktJ3_isNaN_0 := by decide +kernel
theorem dJ3_isNaN_0 : decode cJ3_isNaN 0 = .ok (.fload_n 0, 1) := dk_34 (dk_at dksJ3_isNaN_0 0 rfl rfl)
theorem dJ3_isNaN_1 : decode cJ3_isNaN 1 = .ok (.fload_n 0, 1) := dk_34 (dk_at dksJ3_isNaN_0 1 rfl rfl)
theorem dJ3_isNaN_2 : decode cJ3_isNaN 2 = .ok (.fcmp .l, 1) := dk_149 (dk_at dksJ3_isNaN_0 2 rfl rfl)
theorem dJ3_isNaN_3 : decode cJ3_isNaN 3 = .ok (.ifCond .eq 7, 3) := dk_153 0 7 (dk_at dksJ3_isNaN_0 3 rfl rfl)
theorem dJ3_isNaN_6 : decode cJ3_isNaN 6 = .ok (.iconst 1, 1) := dk_4 (dk_at dksJ3_isNaN_0 6 rfl rfl)
theorem dJ3_isNaN_7 : decode cJ3_isNaN 7 = .ok (.goto 4, 3) := dk_167 0 4 (dk_at dksJ3_isNaN_0 7 rfl rfl)
theorem dJ3_isNaN_10 : decode cJ3_isNaN 10 = .ok (.iconst 0, 1) := dk_3 (dk_at dksJ3_isNaN_0 10 rfl rfl)
theorem dJ3_isNaN_11 : decode cJ3_isNaN 11 = .ok (.ireturn, 1) := dk_172 (dk_at dksJ3_isNaN_0 11 rfl rfl)
theorem q71 : (Jvm.Cond.initialized "java/lang/Float") ∈ lw_all := lw_g (lw_at lw_m1 13 rfl) rfl
theorem q410 : (Jvm.Cond.static ({ cls := "java/lang/Float", name := "floatToIntBits", desc := "(F)I" } : Jvm.MethodName)) ∈ lw_all := lw_g (lw_at lw_m2 112 rfl) rfl
theorem q411 : (Jvm.Cond.code ({ cls := "java/lang/Float", name := "floatToIntBits", desc := "(F)I" } : Jvm.MethodName) prog_59_method_24_code (1 : Nat) (Option.some Jvm.ClassFile.FieldType.int)) ∈ lw_all := lw_g (lw_at lw_m2 113 rfl) rfl
theorem q412 : (Jvm.Cond.methodLink "java/lang/Float" (59 : Nat) ({ cls := "java/lang/Float", name := "isNaN", desc := "(F)Z" } : Jvm.MethodName)) ∈ lw_all := lw_g (lw_at lw_m2 114 rfl) rfl
theorem q413 : (Jvm.Cond.static ({ cls := "java/lang/Float", name := "isNaN", desc := "(F)Z" } : Jvm.MethodName)) ∈ lw_all := lw_g (lw_at lw_m2 115 rfl) rfl
theorem q414 : (Jvm.Cond.code ({ cls := "java/lang/Float", name := "isNaN", desc := "(F)Z" } : Jvm.MethodName) prog_59_method_6_code (1 : Nat) (Option.some Jvm.ClassFile.FieldType.boolean)) ∈ lw_all := lw_g (lw_at lw_m2 116 rfl) rfl
theorem q415 : (Jvm.Cond.methodLink "java/lang/Float" (74 : Nat) ({ cls := "java/lang/Float", name := "floatToRawIntBits", desc := "(F)I" } : Jvm.MethodName)) ∈ lw_all := lw_g (lw_at lw_m2 117 rfl) rfl
theorem q416 : (Jvm.Cond.static ({ cls := "java/lang/Float", name := "floatToRawIntBits", desc := "(F)I" } : Jvm.MethodName)) ∈ lw_all := lw_g (lw_at lw_m2 118 rfl) rfl
theorem q417 : (Jvm.Cond.native ({ cls := "java/lang/Float", name := "floatToRawIntBits", desc := "(F)I" } : Jvm.MethodName)) ∈ lw_all := lw_g (lw_at lw_m2 119 rfl) rfl
theorem q418 : (Jvm.Cond.constant "java/lang/Float" (77 : Nat) (2143289344 : Int32)) ∈ lw_all := lw_g (lw_at lw_m2 120 rfl) rfl
/-! java/lang/RuntimeException -/
set_option maxRecDepth 100000
def RJ4 : String := "java/lang/RuntimeException"
abbrev cJ4_init : ByteArray := prog_63_method_1_code
def yJ4_init : MethodName := ⟨RJ4, "<init>", "()V"⟩
theorem dJ4_init_0 : decode cJ4_init 0 = .ok (.aload_n 0, 1) := by decide +kernel
theorem dJ4_init_1 : decode cJ4_init 1 = .ok (.invokespecial 1, 3) := by decide +kernel
theorem dJ4_init_4 : decode cJ4_init 4 = .ok (.return_, 1) := by decide +kernel
abbrev cJ4_init_2 : ByteArray := prog_63_method_2_code
def yJ4_init_2 : MethodName := ⟨RJ4, "<init>", "(Ljava/lang/String;)V"⟩
def dkwJ4_init_2_0 : List UInt8 := [42, 43, 183, 0, 7, 177]
abbrev dktJ4_init_2_0 : List UInt8 := dkwJ4_init_2_0 ++ []
theorem dksJ4_init_2_0 : cJ4_init_2.data.toList.drop 0 = dktJ4_init_2_0 := by decide +kernel
theorem dJ4_init_2_0 : decode cJ4_init_2 0 = .ok (.aload_n 0, 1) := dk_42 (dk_at dksJ4_init_2_0 0 rfl rfl)
theorem dJ4_init_2_1 : decode cJ4_init_2 1 = .ok (.aload_n 1, 1) := dk_43 (dk_at dksJ4_init_2_0 1 rfl rfl)
theorem dJ4_init_2_2 : decode cJ4_init_2 2 = .ok (.invokespecial 7, 3) := dk_183 0 7 (dk_at dksJ4_init_2_0 2 rfl rfl)
theorem dJ4_init_2_5 : decode cJ4_init_2 5 = .ok (.return_, 1) := dk_177 (dk_at dksJ4_init_2_0 5 rfl rfl)
theorem q85 : (Jvm.Cond.initialized "java/lang/RuntimeException") ∈ lw_all := lw_g (lw_at lw_m1 27 rfl) rfl
theorem q1525 : (Jvm.Cond.declares ({ cls := "java/lang/RuntimeException", name := "<init>", desc := "()V" } : Jvm.MethodName)) ∈ lw_tbl := lw_at lw_m7 27 rfl
theorem q1526 : (Jvm.Cond.declares ({ cls := "java/lang/RuntimeException", name := "<init>", desc := "(Ljava/lang/String;)V" } : Jvm.MethodName)) ∈ lw_tbl := lw_at lw_m7 28 rfl
theorem q1537 : (Jvm.Cond.instanceMethod ({ cls := "java/lang/RuntimeException", name := "<init>", desc := "()V" } : Jvm.MethodName)) ∈ lw_all := lw_g (lw_at lw_m7 39 rfl) rfl
theorem q1538 : (Jvm.Cond.code ({ cls := "java/lang/RuntimeException", name := "<init>", desc := "()V" } : Jvm.MethodName) prog_63_method_1_code (1 : Nat) (Option.none : Option Jvm.ClassFile.FieldType)) ∈ lw_all := lw_g (lw_at lw_m7 40 rfl) rfl
theorem q1539 : (Jvm.Cond.methodLink "java/lang/RuntimeException" (1 : Nat) ({ cls := "java/lang/Exception", name := "<init>", desc := "()V" } : Jvm.MethodName)) ∈ lw_all := lw_g (lw_at lw_m7 41 rfl) rfl
theorem q1554 : (Jvm.Cond.instanceMethod ({ cls := "java/lang/RuntimeException", name := "<init>", desc := "(Ljava/lang/String;)V" } : Jvm.MethodName)) ∈ lw_all := lw_g (lw_at lw_m7 56 rfl) rfl
theorem q1555 : (Jvm.Cond.code ({ cls := "java/lang/RuntimeException", name := "<init>", desc := "(Ljava/lang/String;)V" } : Jvm.MethodName) prog_63_method_2_code (2 : Nat) (Option.none : Option Jvm.ClassFile.FieldType)) ∈ lw_all := lw_g (lw_at lw_m7 57 rfl) rfl
theorem q1556 : (Jvm.Cond.methodLink "java/lang/RuntimeException" (7 : Nat) ({ cls := "java/lang/Exception", name := "<init>", desc := "(Ljava/lang/String;)V" } : Jvm.MethodName)) ∈ lw_all := lw_g (lw_at lw_m7 58 rfl) rfl
/-! java/util/NoSuchElementException -/
set_option maxRecDepth 100000
def RJ5 : String := "java/util/NoSuchElementException"
def TJ5 : u_T := fun k => match k with
  | 0 => ("java/lang/Throwable", "cause", "Ljava/lang/Throwable;", false)
  | 1 => ("java/lang/Throwable", "stackTrace", "[Ljava/lang/StackTraceElement;", false)
  | 2 => ("java/lang/Throwable", "suppressedExceptions", "Ljava/util/List;", false)
  | 3 => ("java/lang/Throwable", "detailMessage", "Ljava/lang/String;", false)
  | 4 => ("java/lang/Throwable", "backtrace", "Ljava/lang/Object;", false)
  | _ => ("java/lang/Throwable", "depth", "I", false)
def tyJ5 : Nat → FieldType := fun k => match k with
  | 0 => .object "java/lang/Throwable"
  | 1 => .array (.object "java/lang/StackTraceElement")
  | 2 => .object "java/util/List"
  | 3 => .object "java/lang/String"
  | 4 => .object "java/lang/Object"
  | _ => .int
abbrev wsJ50 : List Cond := u_ws RJ5 TJ5 6
theorem nmJ5 : ∀ a, a < 6 → ∀ b, b < 6 → a ≠ b → (TJ5 a).2.1 ≠ (TJ5 b).2.1 := by decide +kernel
theorem tyJ5_ok : ∀ k, k < 6 → parseFieldDescriptor (TJ5 k).2.2.1 = some (tyJ5 k) := by decide +kernel
abbrev cJ5_init : ByteArray := prog_69_method_1_code
def yJ5_init : MethodName := ⟨RJ5, "<init>", "()V"⟩
theorem dJ5_init_0 : decode cJ5_init 0 = .ok (.aload_n 0, 1) := by decide +kernel
theorem dJ5_init_1 : decode cJ5_init 1 = .ok (.invokespecial 1, 3) := by decide +kernel
theorem dJ5_init_4 : decode cJ5_init 4 = .ok (.return_, 1) := by decide +kernel
theorem q86 : (Jvm.Cond.initialized "java/util/NoSuchElementException") ∈ lw_all := lw_g (lw_at lw_m1 28 rfl) rfl
theorem q166 : (Jvm.Cond.selects "java/util/NoSuchElementException" ({ cls := "java/lang/Throwable", name := "fillInStackTrace", desc := "()Ljava/lang/Throwable;" } : Jvm.MethodName) ({ cls := "java/lang/Throwable", name := "fillInStackTrace", desc := "()Ljava/lang/Throwable;" } : Jvm.MethodName)) ∈ lw_all := lw_g (lw_at lw_m1 108 rfl) rfl
theorem q1523 : (Jvm.Cond.instantiable "java/util/NoSuchElementException" (6 : Nat)) ∈ lw_all := lw_g (lw_at lw_m7 25 rfl) rfl
theorem q1524 : (Jvm.Cond.castable "java/util/NoSuchElementException" "java/util/NoSuchElementException") ∈ lw_tbl := lw_at lw_m7 26 rfl
theorem q1527 : (Jvm.Cond.selects "java/util/NoSuchElementException" ({ cls := "java/lang/Throwable", name := "fillInStackTrace", desc := "(I)Ljava/lang/Throwable;" } : Jvm.MethodName) ({ cls := "java/lang/Throwable", name := "fillInStackTrace", desc := "(I)Ljava/lang/Throwable;" } : Jvm.MethodName)) ∈ lw_all := lw_g (lw_at lw_m7 29 rfl) rfl
theorem q1528 : (Jvm.Cond.lays "java/util/NoSuchElementException" "java/lang/Throwable" "cause" "Ljava/lang/Throwable;") ∈ lw_all := lw_g (lw_at lw_m7 30 rfl) rfl
theorem q1529 : (Jvm.Cond.lays "java/util/NoSuchElementException" "java/lang/Throwable" "stackTrace" "[Ljava/lang/StackTraceElement;") ∈ lw_all := lw_g (lw_at lw_m7 31 rfl) rfl
theorem q1530 : (Jvm.Cond.lays "java/util/NoSuchElementException" "java/lang/Throwable" "suppressedExceptions" "Ljava/util/List;") ∈ lw_all := lw_g (lw_at lw_m7 32 rfl) rfl
theorem q1531 : (Jvm.Cond.lays "java/util/NoSuchElementException" "java/lang/Throwable" "detailMessage" "Ljava/lang/String;") ∈ lw_all := lw_g (lw_at lw_m7 33 rfl) rfl
theorem q1532 : (Jvm.Cond.lays "java/util/NoSuchElementException" "java/lang/Throwable" "backtrace" "Ljava/lang/Object;") ∈ lw_all := lw_g (lw_at lw_m7 34 rfl) rfl
theorem q1534 : (Jvm.Cond.instanceMethod ({ cls := "java/util/NoSuchElementException", name := "<init>", desc := "()V" } : Jvm.MethodName)) ∈ lw_all := lw_g (lw_at lw_m7 36 rfl) rfl
theorem q1535 : (Jvm.Cond.code ({ cls := "java/util/NoSuchElementException", name := "<init>", desc := "()V" } : Jvm.MethodName) prog_69_method_1_code (1 : Nat) (Option.none : Option Jvm.ClassFile.FieldType)) ∈ lw_all := lw_g (lw_at lw_m7 37 rfl) rfl
theorem q1536 : (Jvm.Cond.methodLink "java/util/NoSuchElementException" (1 : Nat) ({ cls := "java/lang/RuntimeException", name := "<init>", desc := "()V" } : Jvm.MethodName)) ∈ lw_all := lw_g (lw_at lw_m7 38 rfl) rfl
theorem q1540 : (Jvm.Cond.lays "java/util/NoSuchElementException" "java/lang/Throwable" "depth" "I") ∈ lw_all := lw_g (lw_at lw_m7 42 rfl) rfl
theorem q1541 : (Jvm.Cond.superclass "java/util/NoSuchElementException" "java/lang/RuntimeException") ∈ lw_all := lw_g (lw_at lw_m7 43 rfl) rfl
theorem q2207 : (Jvm.Cond.castable "java/util/NoSuchElementException" "java/lang/Object") ∈ lw_tbl := lw_at lw_m9 229 rfl
theorem in_J5 : ∀ w ∈ wsJ50, w ∈ lw_all := lw_in wsJ50 [1528, 1529, 1530, 1531, 1532, 1540] (by decide +kernel) (by decide +kernel)
/-! java/lang/IndexOutOfBoundsException -/
set_option maxRecDepth 100000
def RJ6 : String := "java/lang/IndexOutOfBoundsException"
def TJ6 : u_T := fun k => match k with
  | 0 => ("java/lang/Throwable", "cause", "Ljava/lang/Throwable;", false)
  | 1 => ("java/lang/Throwable", "stackTrace", "[Ljava/lang/StackTraceElement;", false)
  | 2 => ("java/lang/Throwable", "suppressedExceptions", "Ljava/util/List;", false)
  | 3 => ("java/lang/Throwable", "detailMessage", "Ljava/lang/String;", false)
  | 4 => ("java/lang/Throwable", "backtrace", "Ljava/lang/Object;", false)
  | _ => ("java/lang/Throwable", "depth", "I", false)
def tyJ6 : Nat → FieldType := fun k => match k with
  | 0 => .object "java/lang/Throwable"
  | 1 => .array (.object "java/lang/StackTraceElement")
  | 2 => .object "java/util/List"
  | 3 => .object "java/lang/String"
  | 4 => .object "java/lang/Object"
  | _ => .int
abbrev wsJ60 : List Cond := u_ws RJ6 TJ6 6
theorem nmJ6 : ∀ a, a < 6 → ∀ b, b < 6 → a ≠ b → (TJ6 a).2.1 ≠ (TJ6 b).2.1 := by decide +kernel
theorem tyJ6_ok : ∀ k, k < 6 → parseFieldDescriptor (TJ6 k).2.2.1 = some (tyJ6 k) := by decide +kernel
abbrev cJ6_init : ByteArray := prog_60_method_2_code
def yJ6_init : MethodName := ⟨RJ6, "<init>", "(Ljava/lang/String;)V"⟩
def dkwJ6_init_0 : List UInt8 := [42, 43, 183, 0, 7, 177]
abbrev dktJ6_init_0 : List UInt8 := dkwJ6_init_0 ++ []
theorem dksJ6_init_0 : cJ6_init.data.toList.drop 0 = dktJ6_init_0 := by decide +kernel
theorem dJ6_init_0 : decode cJ6_init 0 = .ok (.aload_n 0, 1) := dk_42 (dk_at dksJ6_init_0 0 rfl rfl)
theorem dJ6_init_1 : decode cJ6_init 1 = .ok (.aload_n 1, 1) := dk_43 (dk_at dksJ6_init_0 1 rfl rfl)
theorem dJ6_init_2 : decode cJ6_init 2 = .ok (.invokespecial 7, 3) := dk_183 0 7 (dk_at dksJ6_init_0 2 rfl rfl)
theorem dJ6_init_5 : decode cJ6_init 5 = .ok (.return_, 1) := dk_177 (dk_at dksJ6_init_0 5 rfl rfl)
abbrev cJ6_init_2 : ByteArray := prog_60_method_1_code
def yJ6_init_2 : MethodName := ⟨RJ6, "<init>", "()V"⟩
theorem dJ6_init_2_0 : decode cJ6_init_2 0 = .ok (.aload_n 0, 1) := by decide +kernel
theorem dJ6_init_2_1 : decode cJ6_init_2 1 = .ok (.invokespecial 1, 3) := by decide +kernel
theorem dJ6_init_2_4 : decode cJ6_init_2 4 = .ok (.return_, 1) := by decide +kernel
theorem q87 : (Jvm.Cond.initialized "java/lang/IndexOutOfBoundsException") ∈ lw_all := lw_g (lw_at lw_m1 29 rfl) rfl
theorem q165 : (Jvm.Cond.selects "java/lang/IndexOutOfBoundsException" ({ cls := "java/lang/Throwable", name := "fillInStackTrace", desc := "()Ljava/lang/Throwable;" } : Jvm.MethodName) ({ cls := "java/lang/Throwable", name := "fillInStackTrace", desc := "()Ljava/lang/Throwable;" } : Jvm.MethodName)) ∈ lw_all := lw_g (lw_at lw_m1 107 rfl) rfl
theorem q1551 : (Jvm.Cond.instanceMethod ({ cls := "java/lang/IndexOutOfBoundsException", name := "<init>", desc := "(Ljava/lang/String;)V" } : Jvm.MethodName)) ∈ lw_all := lw_g (lw_at lw_m7 53 rfl) rfl
theorem q1552 : (Jvm.Cond.code ({ cls := "java/lang/IndexOutOfBoundsException", name := "<init>", desc := "(Ljava/lang/String;)V" } : Jvm.MethodName) prog_60_method_2_code (2 : Nat) (Option.none : Option Jvm.ClassFile.FieldType)) ∈ lw_all := lw_g (lw_at lw_m7 54 rfl) rfl
theorem q1553 : (Jvm.Cond.methodLink "java/lang/IndexOutOfBoundsException" (7 : Nat) ({ cls := "java/lang/RuntimeException", name := "<init>", desc := "(Ljava/lang/String;)V" } : Jvm.MethodName)) ∈ lw_all := lw_g (lw_at lw_m7 55 rfl) rfl
theorem q1570 : (Jvm.Cond.declares ({ cls := "java/lang/IndexOutOfBoundsException", name := "<init>", desc := "()V" } : Jvm.MethodName)) ∈ lw_tbl := lw_at lw_m7 72 rfl
theorem q1571 : (Jvm.Cond.declares ({ cls := "java/lang/IndexOutOfBoundsException", name := "<init>", desc := "(Ljava/lang/String;)V" } : Jvm.MethodName)) ∈ lw_tbl := lw_at lw_m7 73 rfl
theorem q1583 : (Jvm.Cond.instantiable "java/lang/IndexOutOfBoundsException" (6 : Nat)) ∈ lw_all := lw_g (lw_at lw_m7 85 rfl) rfl
theorem q1584 : (Jvm.Cond.castable "java/lang/IndexOutOfBoundsException" "java/lang/IndexOutOfBoundsException") ∈ lw_tbl := lw_at lw_m7 86 rfl
theorem q1585 : (Jvm.Cond.selects "java/lang/IndexOutOfBoundsException" ({ cls := "java/lang/Throwable", name := "fillInStackTrace", desc := "(I)Ljava/lang/Throwable;" } : Jvm.MethodName) ({ cls := "java/lang/Throwable", name := "fillInStackTrace", desc := "(I)Ljava/lang/Throwable;" } : Jvm.MethodName)) ∈ lw_all := lw_g (lw_at lw_m7 87 rfl) rfl
theorem q1586 : (Jvm.Cond.lays "java/lang/IndexOutOfBoundsException" "java/lang/Throwable" "cause" "Ljava/lang/Throwable;") ∈ lw_all := lw_g (lw_at lw_m7 88 rfl) rfl
theorem q1587 : (Jvm.Cond.lays "java/lang/IndexOutOfBoundsException" "java/lang/Throwable" "stackTrace" "[Ljava/lang/StackTraceElement;") ∈ lw_all := lw_g (lw_at lw_m7 89 rfl) rfl
theorem q1588 : (Jvm.Cond.lays "java/lang/IndexOutOfBoundsException" "java/lang/Throwable" "suppressedExceptions" "Ljava/util/List;") ∈ lw_all := lw_g (lw_at lw_m7 90 rfl) rfl
theorem q1589 : (Jvm.Cond.lays "java/lang/IndexOutOfBoundsException" "java/lang/Throwable" "detailMessage" "Ljava/lang/String;") ∈ lw_all := lw_g (lw_at lw_m7 91 rfl) rfl
theorem q1590 : (Jvm.Cond.lays "java/lang/IndexOutOfBoundsException" "java/lang/Throwable" "backtrace" "Ljava/lang/Object;") ∈ lw_all := lw_g (lw_at lw_m7 92 rfl) rfl
theorem q1592 : (Jvm.Cond.instanceMethod ({ cls := "java/lang/IndexOutOfBoundsException", name := "<init>", desc := "()V" } : Jvm.MethodName)) ∈ lw_all := lw_g (lw_at lw_m7 94 rfl) rfl
theorem q1593 : (Jvm.Cond.code ({ cls := "java/lang/IndexOutOfBoundsException", name := "<init>", desc := "()V" } : Jvm.MethodName) prog_60_method_1_code (1 : Nat) (Option.none : Option Jvm.ClassFile.FieldType)) ∈ lw_all := lw_g (lw_at lw_m7 95 rfl) rfl
theorem q1594 : (Jvm.Cond.methodLink "java/lang/IndexOutOfBoundsException" (1 : Nat) ({ cls := "java/lang/RuntimeException", name := "<init>", desc := "()V" } : Jvm.MethodName)) ∈ lw_all := lw_g (lw_at lw_m7 96 rfl) rfl
theorem q1595 : (Jvm.Cond.lays "java/lang/IndexOutOfBoundsException" "java/lang/Throwable" "depth" "I") ∈ lw_all := lw_g (lw_at lw_m7 97 rfl) rfl
theorem q1596 : (Jvm.Cond.superclass "java/lang/IndexOutOfBoundsException" "java/lang/RuntimeException") ∈ lw_all := lw_g (lw_at lw_m7 98 rfl) rfl
theorem q2209 : (Jvm.Cond.castable "java/lang/IndexOutOfBoundsException" "java/lang/Object") ∈ lw_tbl := lw_at lw_m9 231 rfl
theorem in_J6 : ∀ w ∈ wsJ60, w ∈ lw_all := lw_in wsJ60 [1586, 1587, 1588, 1589, 1590, 1595] (by decide +kernel) (by decide +kernel)
/-! java/lang/ArrayIndexOutOfBoundsException -/
set_option maxRecDepth 100000
def RJ7 : String := "java/lang/ArrayIndexOutOfBoundsException"
def TJ7 : u_T := fun k => match k with
  | 0 => ("java/lang/Throwable", "backtrace", "Ljava/lang/Object;", false)
  | 1 => ("java/lang/Throwable", "detailMessage", "Ljava/lang/String;", false)
  | 2 => ("java/lang/Throwable", "cause", "Ljava/lang/Throwable;", false)
  | 3 => ("java/lang/Throwable", "stackTrace", "[Ljava/lang/StackTraceElement;", false)
  | 4 => ("java/lang/Throwable", "depth", "I", false)
  | _ => ("java/lang/Throwable", "suppressedExceptions", "Ljava/util/List;", false)
def tyJ7 : Nat → FieldType := fun k => match k with
  | 0 => .object "java/lang/Object"
  | 1 => .object "java/lang/String"
  | 2 => .object "java/lang/Throwable"
  | 3 => .array (.object "java/lang/StackTraceElement")
  | 4 => .int
  | _ => .object "java/util/List"
abbrev wsJ70 : List Cond := u_ws RJ7 TJ7 6
theorem nmJ7 : ∀ a, a < 6 → ∀ b, b < 6 → a ≠ b → (TJ7 a).2.1 ≠ (TJ7 b).2.1 := by decide +kernel
theorem tyJ7_ok : ∀ k, k < 6 → parseFieldDescriptor (TJ7 k).2.2.1 = some (tyJ7 k) := by decide +kernel
abbrev cJ7_init : ByteArray := prog_54_method_2_code
def yJ7_init : MethodName := ⟨RJ7, "<init>", "(Ljava/lang/String;)V"⟩
def dkwJ7_init_0 : List UInt8 := [42, 43, 183, 0, 7, 177]
abbrev dktJ7_init_0 : List UInt8 := dkwJ7_init_0 ++ []
theorem dksJ7_init_0 : cJ7_init.data.toList.drop 0 = dktJ7_init_0 := by decide +kernel
theorem dJ7_init_0 : decode cJ7_init 0 = .ok (.aload_n 0, 1) := dk_42 (dk_at dksJ7_init_0 0 rfl rfl)
theorem dJ7_init_1 : decode cJ7_init 1 = .ok (.aload_n 1, 1) := dk_43 (dk_at dksJ7_init_0 1 rfl rfl)
theorem dJ7_init_2 : decode cJ7_init 2 = .ok (.invokespecial 7, 3) := dk_183 0 7 (dk_at dksJ7_init_0 2 rfl rfl)
theorem dJ7_init_5 : decode cJ7_init 5 = .ok (.return_, 1) := dk_177 (dk_at dksJ7_init_0 5 rfl rfl)
theorem q88 : (Jvm.Cond.initialized "java/lang/ArrayIndexOutOfBoundsException") ∈ lw_all := lw_g (lw_at lw_m1 30 rfl) rfl
theorem q164 : (Jvm.Cond.selects "java/lang/ArrayIndexOutOfBoundsException" ({ cls := "java/lang/Throwable", name := "fillInStackTrace", desc := "()Ljava/lang/Throwable;" } : Jvm.MethodName) ({ cls := "java/lang/Throwable", name := "fillInStackTrace", desc := "()Ljava/lang/Throwable;" } : Jvm.MethodName)) ∈ lw_all := lw_g (lw_at lw_m1 106 rfl) rfl
theorem q1547 : (Jvm.Cond.instantiable "java/lang/ArrayIndexOutOfBoundsException" (6 : Nat)) ∈ lw_all := lw_g (lw_at lw_m7 49 rfl) rfl
theorem q1548 : (Jvm.Cond.instanceMethod ({ cls := "java/lang/ArrayIndexOutOfBoundsException", name := "<init>", desc := "(Ljava/lang/String;)V" } : Jvm.MethodName)) ∈ lw_all := lw_g (lw_at lw_m7 50 rfl) rfl
theorem q1549 : (Jvm.Cond.code ({ cls := "java/lang/ArrayIndexOutOfBoundsException", name := "<init>", desc := "(Ljava/lang/String;)V" } : Jvm.MethodName) prog_54_method_2_code (2 : Nat) (Option.none : Option Jvm.ClassFile.FieldType)) ∈ lw_all := lw_g (lw_at lw_m7 51 rfl) rfl
theorem q1550 : (Jvm.Cond.methodLink "java/lang/ArrayIndexOutOfBoundsException" (7 : Nat) ({ cls := "java/lang/IndexOutOfBoundsException", name := "<init>", desc := "(Ljava/lang/String;)V" } : Jvm.MethodName)) ∈ lw_all := lw_g (lw_at lw_m7 52 rfl) rfl
theorem q1562 : (Jvm.Cond.lays "java/lang/ArrayIndexOutOfBoundsException" "java/lang/Throwable" "backtrace" "Ljava/lang/Object;") ∈ lw_all := lw_g (lw_at lw_m7 64 rfl) rfl
theorem q1563 : (Jvm.Cond.lays "java/lang/ArrayIndexOutOfBoundsException" "java/lang/Throwable" "detailMessage" "Ljava/lang/String;") ∈ lw_all := lw_g (lw_at lw_m7 65 rfl) rfl
theorem q1564 : (Jvm.Cond.lays "java/lang/ArrayIndexOutOfBoundsException" "java/lang/Throwable" "cause" "Ljava/lang/Throwable;") ∈ lw_all := lw_g (lw_at lw_m7 66 rfl) rfl
theorem q1565 : (Jvm.Cond.lays "java/lang/ArrayIndexOutOfBoundsException" "java/lang/Throwable" "stackTrace" "[Ljava/lang/StackTraceElement;") ∈ lw_all := lw_g (lw_at lw_m7 67 rfl) rfl
theorem q1566 : (Jvm.Cond.lays "java/lang/ArrayIndexOutOfBoundsException" "java/lang/Throwable" "depth" "I") ∈ lw_all := lw_g (lw_at lw_m7 68 rfl) rfl
theorem q1567 : (Jvm.Cond.lays "java/lang/ArrayIndexOutOfBoundsException" "java/lang/Throwable" "suppressedExceptions" "Ljava/util/List;") ∈ lw_all := lw_g (lw_at lw_m7 69 rfl) rfl
theorem q1568 : (Jvm.Cond.superclass "java/lang/ArrayIndexOutOfBoundsException" "java/lang/IndexOutOfBoundsException") ∈ lw_all := lw_g (lw_at lw_m7 70 rfl) rfl
theorem q1569 : (Jvm.Cond.castable "java/lang/ArrayIndexOutOfBoundsException" "java/lang/ArrayIndexOutOfBoundsException") ∈ lw_tbl := lw_at lw_m7 71 rfl
theorem q1572 : (Jvm.Cond.selects "java/lang/ArrayIndexOutOfBoundsException" ({ cls := "java/lang/Throwable", name := "fillInStackTrace", desc := "(I)Ljava/lang/Throwable;" } : Jvm.MethodName) ({ cls := "java/lang/Throwable", name := "fillInStackTrace", desc := "(I)Ljava/lang/Throwable;" } : Jvm.MethodName)) ∈ lw_all := lw_g (lw_at lw_m7 74 rfl) rfl
theorem q2162 : (Jvm.Cond.castable "java/lang/ArrayIndexOutOfBoundsException" "java/lang/IndexOutOfBoundsException") ∈ lw_tbl := lw_at lw_m9 184 rfl
theorem q2208 : (Jvm.Cond.castable "java/lang/ArrayIndexOutOfBoundsException" "java/lang/Object") ∈ lw_tbl := lw_at lw_m9 230 rfl
theorem in_J7 : ∀ w ∈ wsJ70, w ∈ lw_all := lw_in wsJ70 [1562, 1563, 1564, 1565, 1566, 1567] (by decide +kernel) (by decide +kernel)
/-! java/lang/String -/
set_option maxRecDepth 100000
def RJ8 : String := "java/lang/String"
def TJ8 : u_T := fun k => match k with
  | 0 => ("java/lang/String", "value", "[B", true)
  | _ => ("java/lang/String", "coder", "B", true)
def tyJ8 : Nat → FieldType := fun k => match k with
  | 0 => .array .byte
  | _ => .byte
abbrev wsJ80 : List Cond := u_ws RJ8 TJ8 2
theorem nmJ8 : ∀ a, a < 2 → ∀ b, b < 2 → a ≠ b → (TJ8 a).2.1 ≠ (TJ8 b).2.1 := by decide +kernel
theorem tyJ8_ok : ∀ k, k < 2 → parseFieldDescriptor (TJ8 k).2.2.1 = some (tyJ8 k) := by decide +kernel
theorem q89 : (Jvm.Cond.initialized "java/lang/String") ∈ lw_all := lw_g (lw_at lw_m1 31 rfl) rfl
theorem q1573 : (Jvm.Cond.instantiable "java/lang/String" (4 : Nat)) ∈ lw_all := lw_g (lw_at lw_m7 75 rfl) rfl
theorem q1574 : (Jvm.Cond.laysFinal "java/lang/String" "java/lang/String" "value" "[B") ∈ lw_all := lw_g (lw_at lw_m7 76 rfl) rfl
theorem q1575 : (Jvm.Cond.soleField "java/lang/String" "value") ∈ lw_all := lw_g (lw_at lw_m7 77 rfl) rfl
theorem q1576 : (Jvm.Cond.laysFinal "java/lang/String" "java/lang/String" "coder" "B") ∈ lw_all := lw_g (lw_at lw_m7 78 rfl) rfl
theorem q1577 : (Jvm.Cond.soleField "java/lang/String" "coder") ∈ lw_all := lw_g (lw_at lw_m7 79 rfl) rfl
theorem q2211 : (Jvm.Cond.castable "java/lang/String" "java/lang/Object") ∈ lw_tbl := lw_at lw_m9 233 rfl
theorem in_J8 : ∀ w ∈ wsJ80, w ∈ lw_all := lw_in wsJ80 [1574, 1576] (by decide +kernel) (by decide +kernel)
/-! java/lang/Object -/
set_option maxRecDepth 100000
def RJ9 : String := "java/lang/Object"
abbrev cJ9_init : ByteArray := object_method_1_code
def yJ9_init : MethodName := ⟨RJ9, "<init>", "()V"⟩
theorem dJ9_init_0 : decode cJ9_init 0 = .ok (.return_, 1) := by decide +kernel
theorem q97 : (Jvm.Cond.instanceMethod ({ cls := "java/lang/Object", name := "<init>", desc := "()V" } : Jvm.MethodName)) ∈ lw_all := lw_g (lw_at lw_m1 39 rfl) rfl
theorem q98 : (Jvm.Cond.code ({ cls := "java/lang/Object", name := "<init>", desc := "()V" } : Jvm.MethodName) object_method_1_code (1 : Nat) (Option.none : Option Jvm.ClassFile.FieldType)) ∈ lw_all := lw_g (lw_at lw_m1 40 rfl) rfl
theorem q112 : (Jvm.Cond.native ({ cls := "java/lang/Object", name := "clone", desc := "()Ljava/lang/Object;" } : Jvm.MethodName)) ∈ lw_all := lw_g (lw_at lw_m1 54 rfl) rfl
theorem q113 : (Jvm.Cond.instanceMethod ({ cls := "java/lang/Object", name := "clone", desc := "()Ljava/lang/Object;" } : Jvm.MethodName)) ∈ lw_all := lw_g (lw_at lw_m1 55 rfl) rfl
theorem q2161 : (Jvm.Cond.initialized "java/lang/Object") ∈ lw_all := lw_g (lw_at lw_m9 183 rfl) rfl
theorem q2278 : (Jvm.Cond.instantiable "java/lang/Object" (0 : Nat)) ∈ lw_all := lw_g (lw_at lw_m10 60 rfl) rfl
/-! RankEntryLaw -/
set_option maxRecDepth 100000
def RX0 : String := "RankEntryLaw"
abbrev cX0_reg : ByteArray := method_3_code
def yX0_reg : MethodName := ⟨RX0, "reg", "(LRankEntry;I[J)I"⟩
def dkwX0_reg_0 : List UInt8 := [44, 3, 42, 27, 182, 0, 7, 133, 80, 167, 0, 6, 78, 4, 172, 3, 172]
abbrev dktX0_reg_0 : List UInt8 := dkwX0_reg_0 ++ []
theorem dksX0_reg_0 : cX0_reg.data.toList.drop 0 = dktX0_reg_0 := by decide +kernel
theorem dX0_reg_0 : decode cX0_reg 0 = .ok (.aload_n 2, 1) := dk_44 (dk_at dksX0_reg_0 0 rfl rfl)
theorem dX0_reg_1 : decode cX0_reg 1 = .ok (.iconst 0, 1) := dk_3 (dk_at dksX0_reg_0 1 rfl rfl)
theorem dX0_reg_2 : decode cX0_reg 2 = .ok (.aload_n 0, 1) := dk_42 (dk_at dksX0_reg_0 2 rfl rfl)
theorem dX0_reg_3 : decode cX0_reg 3 = .ok (.iload_n 1, 1) := dk_27 (dk_at dksX0_reg_0 3 rfl rfl)
theorem dX0_reg_4 : decode cX0_reg 4 = .ok (.invokevirtual 7, 3) := dk_182 0 7 (dk_at dksX0_reg_0 4 rfl rfl)
theorem dX0_reg_7 : decode cX0_reg 7 = .ok (.i2l, 1) := dk_133 (dk_at dksX0_reg_0 7 rfl rfl)
theorem dX0_reg_8 : decode cX0_reg 8 = .ok (.lastore, 1) := dk_80 (dk_at dksX0_reg_0 8 rfl rfl)
theorem dX0_reg_9 : decode cX0_reg 9 = .ok (.goto 6, 3) := dk_167 0 6 (dk_at dksX0_reg_0 9 rfl rfl)
theorem dX0_reg_12 : decode cX0_reg 12 = .ok (.astore_n 3, 1) := dk_78 (dk_at dksX0_reg_0 12 rfl rfl)
theorem dX0_reg_13 : decode cX0_reg 13 = .ok (.iconst 1, 1) := dk_4 (dk_at dksX0_reg_0 13 rfl rfl)
theorem dX0_reg_14 : decode cX0_reg 14 = .ok (.ireturn, 1) := dk_172 (dk_at dksX0_reg_0 14 rfl rfl)
theorem dX0_reg_15 : decode cX0_reg 15 = .ok (.iconst 0, 1) := dk_3 (dk_at dksX0_reg_0 15 rfl rfl)
theorem dX0_reg_16 : decode cX0_reg 16 = .ok (.ireturn, 1) := dk_172 (dk_at dksX0_reg_0 16 rfl rfl)
abbrev cX0_word : ByteArray := method_4_code
def yX0_word : MethodName := ⟨RX0, "word", "(LRankEntry;I[J)I"⟩
def dkwX0_word_0 : List UInt8 := [44, 3, 42, 27, 182, 0, 15, 133, 80, 167, 0, 6, 78, 4, 172, 3, 172]
abbrev dktX0_word_0 : List UInt8 := dkwX0_word_0 ++ []
theorem dksX0_word_0 : cX0_word.data.toList.drop 0 = dktX0_word_0 := by decide +kernel
theorem dX0_word_0 : decode cX0_word 0 = .ok (.aload_n 2, 1) := dk_44 (dk_at dksX0_word_0 0 rfl rfl)
theorem dX0_word_1 : decode cX0_word 1 = .ok (.iconst 0, 1) := dk_3 (dk_at dksX0_word_0 1 rfl rfl)
theorem dX0_word_2 : decode cX0_word 2 = .ok (.aload_n 0, 1) := dk_42 (dk_at dksX0_word_0 2 rfl rfl)
theorem dX0_word_3 : decode cX0_word 3 = .ok (.iload_n 1, 1) := dk_27 (dk_at dksX0_word_0 3 rfl rfl)
theorem dX0_word_4 : decode cX0_word 4 = .ok (.invokevirtual 15, 3) := dk_182 0 15 (dk_at dksX0_word_0 4 rfl rfl)
theorem dX0_word_7 : decode cX0_word 7 = .ok (.i2l, 1) := dk_133 (dk_at dksX0_word_0 7 rfl rfl)
theorem dX0_word_8 : decode cX0_word 8 = .ok (.lastore, 1) := dk_80 (dk_at dksX0_word_0 8 rfl rfl)
theorem dX0_word_9 : decode cX0_word 9 = .ok (.goto 6, 3) := dk_167 0 6 (dk_at dksX0_word_0 9 rfl rfl)
theorem dX0_word_12 : decode cX0_word 12 = .ok (.astore_n 3, 1) := dk_78 (dk_at dksX0_word_0 12 rfl rfl)
theorem dX0_word_13 : decode cX0_word 13 = .ok (.iconst 1, 1) := dk_4 (dk_at dksX0_word_0 13 rfl rfl)
theorem dX0_word_14 : decode cX0_word 14 = .ok (.ireturn, 1) := dk_172 (dk_at dksX0_word_0 14 rfl rfl)
theorem dX0_word_15 : decode cX0_word 15 = .ok (.iconst 0, 1) := dk_3 (dk_at dksX0_word_0 15 rfl rfl)
theorem dX0_word_16 : decode cX0_word 16 = .ok (.ireturn, 1) := dk_172 (dk_at dksX0_word_0 16 rfl rfl)
abbrev cX0_data : ByteArray := method_5_code
def yX0_data : MethodName := ⟨RX0, "data", "(LRankEntry;I[J)I"⟩
def dkwX0_data_0 : List UInt8 := [44, 3, 42, 27, 182, 0, 20, 133, 80, 167, 0, 6, 78, 4, 172, 3, 172]
abbrev dktX0_data_0 : List UInt8 := dkwX0_data_0 ++ []
theorem dksX0_data_0 : cX0_data.data.toList.drop 0 = dktX0_data_0 := by decide +kernel
theorem dX0_data_0 : decode cX0_data 0 = .ok (.aload_n 2, 1) := dk_44 (dk_at dksX0_data_0 0 rfl rfl)
theorem dX0_data_1 : decode cX0_data 1 = .ok (.iconst 0, 1) := dk_3 (dk_at dksX0_data_0 1 rfl rfl)
theorem dX0_data_2 : decode cX0_data 2 = .ok (.aload_n 0, 1) := dk_42 (dk_at dksX0_data_0 2 rfl rfl)
theorem dX0_data_3 : decode cX0_data 3 = .ok (.iload_n 1, 1) := dk_27 (dk_at dksX0_data_0 3 rfl rfl)
theorem dX0_data_4 : decode cX0_data 4 = .ok (.invokevirtual 20, 3) := dk_182 0 20 (dk_at dksX0_data_0 4 rfl rfl)
theorem dX0_data_7 : decode cX0_data 7 = .ok (.i2l, 1) := dk_133 (dk_at dksX0_data_0 7 rfl rfl)
theorem dX0_data_8 : decode cX0_data 8 = .ok (.lastore, 1) := dk_80 (dk_at dksX0_data_0 8 rfl rfl)
theorem dX0_data_9 : decode cX0_data 9 = .ok (.goto 6, 3) := dk_167 0 6 (dk_at dksX0_data_0 9 rfl rfl)
theorem dX0_data_12 : decode cX0_data 12 = .ok (.astore_n 3, 1) := dk_78 (dk_at dksX0_data_0 12 rfl rfl)
theorem dX0_data_13 : decode cX0_data 13 = .ok (.iconst 1, 1) := dk_4 (dk_at dksX0_data_0 13 rfl rfl)
theorem dX0_data_14 : decode cX0_data 14 = .ok (.ireturn, 1) := dk_172 (dk_at dksX0_data_0 14 rfl rfl)
theorem dX0_data_15 : decode cX0_data 15 = .ok (.iconst 0, 1) := dk_3 (dk_at dksX0_data_0 15 rfl rfl)
theorem dX0_data_16 : decode cX0_data 16 = .ok (.ireturn, 1) := dk_172 (dk_at dksX0_data_0 16 rfl rfl)
abbrev cX0_out : ByteArray := method_6_code
def yX0_out : MethodName := ⟨RX0, "out", "(LRankEntry;I[J)I"⟩
def dkwX0_out_0 : List UInt8 := [44, 3, 42, 27, 182, 0, 23, 133, 80, 167, 0, 6, 78, 4, 172, 3, 172]
abbrev dktX0_out_0 : List UInt8 := dkwX0_out_0 ++ []
theorem dksX0_out_0 : cX0_out.data.toList.drop 0 = dktX0_out_0 := by decide +kernel
theorem dX0_out_0 : decode cX0_out 0 = .ok (.aload_n 2, 1) := dk_44 (dk_at dksX0_out_0 0 rfl rfl)
theorem dX0_out_1 : decode cX0_out 1 = .ok (.iconst 0, 1) := dk_3 (dk_at dksX0_out_0 1 rfl rfl)
theorem dX0_out_2 : decode cX0_out 2 = .ok (.aload_n 0, 1) := dk_42 (dk_at dksX0_out_0 2 rfl rfl)
theorem dX0_out_3 : decode cX0_out 3 = .ok (.iload_n 1, 1) := dk_27 (dk_at dksX0_out_0 3 rfl rfl)
theorem dX0_out_4 : decode cX0_out 4 = .ok (.invokevirtual 23, 3) := dk_182 0 23 (dk_at dksX0_out_0 4 rfl rfl)
theorem dX0_out_7 : decode cX0_out 7 = .ok (.i2l, 1) := dk_133 (dk_at dksX0_out_0 7 rfl rfl)
theorem dX0_out_8 : decode cX0_out 8 = .ok (.lastore, 1) := dk_80 (dk_at dksX0_out_0 8 rfl rfl)
theorem dX0_out_9 : decode cX0_out 9 = .ok (.goto 6, 3) := dk_167 0 6 (dk_at dksX0_out_0 9 rfl rfl)
theorem dX0_out_12 : decode cX0_out 12 = .ok (.astore_n 3, 1) := dk_78 (dk_at dksX0_out_0 12 rfl rfl)
theorem dX0_out_13 : decode cX0_out 13 = .ok (.iconst 1, 1) := dk_4 (dk_at dksX0_out_0 13 rfl rfl)
theorem dX0_out_14 : decode cX0_out 14 = .ok (.ireturn, 1) := dk_172 (dk_at dksX0_out_0 14 rfl rfl)
theorem dX0_out_15 : decode cX0_out 15 = .ok (.iconst 0, 1) := dk_3 (dk_at dksX0_out_0 15 rfl rfl)
theorem dX0_out_16 : decode cX0_out 16 = .ok (.ireturn, 1) := dk_172 (dk_at dksX0_out_0 16 rfl rfl)
abbrev cX0_event : ByteArray := method_7_code
def yX0_event : MethodName := ⟨RX0, "event", "(LRankEntry;II[J)I"⟩
def dkwX0_event_0 : List UInt8 := [45, 3, 42, 27, 28, 182, 0, 26, 133, 80, 167, 0, 7, 58, 4, 4, 172, 3, 172]
abbrev dktX0_event_0 : List UInt8 := dkwX0_event_0 ++ []
theorem dksX0_event_0 : cX0_event.data.toList.drop 0 = dktX0_event_0 := by decide +kernel
theorem dX0_event_0 : decode cX0_event 0 = .ok (.aload_n 3, 1) := dk_45 (dk_at dksX0_event_0 0 rfl rfl)
theorem dX0_event_1 : decode cX0_event 1 = .ok (.iconst 0, 1) := dk_3 (dk_at dksX0_event_0 1 rfl rfl)
theorem dX0_event_2 : decode cX0_event 2 = .ok (.aload_n 0, 1) := dk_42 (dk_at dksX0_event_0 2 rfl rfl)
theorem dX0_event_3 : decode cX0_event 3 = .ok (.iload_n 1, 1) := dk_27 (dk_at dksX0_event_0 3 rfl rfl)
theorem dX0_event_4 : decode cX0_event 4 = .ok (.iload_n 2, 1) := dk_28 (dk_at dksX0_event_0 4 rfl rfl)
theorem dX0_event_5 : decode cX0_event 5 = .ok (.invokevirtual 26, 3) := dk_182 0 26 (dk_at dksX0_event_0 5 rfl rfl)
theorem dX0_event_8 : decode cX0_event 8 = .ok (.i2l, 1) := dk_133 (dk_at dksX0_event_0 8 rfl rfl)
theorem dX0_event_9 : decode cX0_event 9 = .ok (.lastore, 1) := dk_80 (dk_at dksX0_event_0 9 rfl rfl)
theorem dX0_event_10 : decode cX0_event 10 = .ok (.goto 7, 3) := dk_167 0 7 (dk_at dksX0_event_0 10 rfl rfl)
theorem dX0_event_13 : decode cX0_event 13 = .ok (.astore 4, 2) := dk_58 4 (dk_at dksX0_event_0 13 rfl rfl)
theorem dX0_event_15 : decode cX0_event 15 = .ok (.iconst 1, 1) := dk_4 (dk_at dksX0_event_0 15 rfl rfl)
theorem dX0_event_16 : decode cX0_event 16 = .ok (.ireturn, 1) := dk_172 (dk_at dksX0_event_0 16 rfl rfl)
theorem dX0_event_17 : decode cX0_event 17 = .ok (.iconst 0, 1) := dk_3 (dk_at dksX0_event_0 17 rfl rfl)
theorem dX0_event_18 : decode cX0_event 18 = .ok (.ireturn, 1) := dk_172 (dk_at dksX0_event_0 18 rfl rfl)
theorem q58 : (Jvm.Cond.initialized "RankEntryLaw") ∈ lw_all := lw_g (lw_at lw_m1 0 rfl) rfl
theorem q91 : (Jvm.Cond.classLink "RankEntryLaw" (8 : Nat) "RankEntry") ∈ lw_all := lw_g (lw_at lw_m1 33 rfl) rfl
theorem q93 : (Jvm.Cond.methodLink "RankEntryLaw" (30 : Nat) ({ cls := "RankEntry", name := "<init>", desc := "()V" } : Jvm.MethodName)) ∈ lw_all := lw_g (lw_at lw_m1 35 rfl) rfl
theorem q1090 : (Jvm.Cond.methodLink "RankEntryLaw" (36 : Nat) ({ cls := "RankEntry", name := "load", desc := "(IJ)Z" } : Jvm.MethodName)) ∈ lw_all := lw_g (lw_at lw_m5 72 rfl) rfl
theorem q1095 : (Jvm.Cond.methodLink "RankEntryLaw" (41 : Nat) ({ cls := "RankEntry", name := "code", desc := "(I)I" } : Jvm.MethodName)) ∈ lw_all := lw_g (lw_at lw_m5 77 rfl) rfl
theorem q1100 : (Jvm.Cond.methodLink "RankEntryLaw" (45 : Nat) ({ cls := "RankEntry", name := "rank", desc := "(II)Z" } : Jvm.MethodName)) ∈ lw_all := lw_g (lw_at lw_m5 82 rfl) rfl
theorem q1104 : (Jvm.Cond.methodLink "RankEntryLaw" (50 : Nat) ({ cls := "RankEntry", name := "enable", desc := "(IZ)Z" } : Jvm.MethodName)) ∈ lw_all := lw_g (lw_at lw_m5 86 rfl) rfl
theorem q1108 : (Jvm.Cond.methodLink "RankEntryLaw" (55 : Nat) ({ cls := "RankEntry", name := "vector", desc := "(II)Z" } : Jvm.MethodName)) ∈ lw_all := lw_g (lw_at lw_m5 90 rfl) rfl
theorem q1112 : (Jvm.Cond.methodLink "RankEntryLaw" (59 : Nat) ({ cls := "RankEntry", name := "split", desc := "(I)Z" } : Jvm.MethodName)) ∈ lw_all := lw_g (lw_at lw_m5 94 rfl) rfl
theorem q1120 : (Jvm.Cond.methodLink "RankEntryLaw" (64 : Nat) ({ cls := "RankEntry", name := "hold", desc := "(IZ)Z" } : Jvm.MethodName)) ∈ lw_all := lw_g (lw_at lw_m5 102 rfl) rfl
theorem q1129 : (Jvm.Cond.methodLink "RankEntryLaw" (68 : Nat) ({ cls := "RankEntry", name := "pend", desc := "(I)Z" } : Jvm.MethodName)) ∈ lw_all := lw_g (lw_at lw_m5 111 rfl) rfl
theorem q1133 : (Jvm.Cond.methodLink "RankEntryLaw" (72 : Nat) ({ cls := "RankEntry", name := "clear", desc := "(I)Z" } : Jvm.MethodName)) ∈ lw_all := lw_g (lw_at lw_m5 115 rfl) rfl
theorem q1138 : (Jvm.Cond.methodLink "RankEntryLaw" (76 : Nat) ({ cls := "RankEntry", name := "timer", desc := "(I)Z" } : Jvm.MethodName)) ∈ lw_all := lw_g (lw_at lw_m5 120 rfl) rfl
theorem q1142 : (Jvm.Cond.methodLink "RankEntryLaw" (80 : Nat) ({ cls := "RankEntry", name := "arrive", desc := "(II)Z" } : Jvm.MethodName)) ∈ lw_all := lw_g (lw_at lw_m5 124 rfl) rfl
theorem q1146 : (Jvm.Cond.methodLink "RankEntryLaw" (84 : Nat) ({ cls := "RankEntry", name := "run", desc := "(I)I" } : Jvm.MethodName)) ∈ lw_all := lw_g (lw_at lw_m5 128 rfl) rfl
theorem q1158 : (Jvm.Cond.methodLink "RankEntryLaw" (88 : Nat) ({ cls := "RankEntry", name := "till", desc := "(I)I" } : Jvm.MethodName)) ∈ lw_all := lw_g (lw_at lw_m5 140 rfl) rfl
theorem q1165 : (Jvm.Cond.methodLink "RankEntryLaw" (92 : Nat) ({ cls := "RankEntry", name := "reset", desc := "()I" } : Jvm.MethodName)) ∈ lw_all := lw_g (lw_at lw_m5 147 rfl) rfl
theorem q1186 : (Jvm.Cond.methodLink "RankEntryLaw" (115 : Nat) ({ cls := "RankEntry", name := "source", desc := "(II)I" } : Jvm.MethodName)) ∈ lw_all := lw_g (lw_at lw_m5 168 rfl) rfl
theorem q1210 : (Jvm.Cond.methodLink "RankEntryLaw" (119 : Nat) ({ cls := "RankEntry", name := "nest", desc := "(I)I" } : Jvm.MethodName)) ∈ lw_all := lw_g (lw_at lw_m5 192 rfl) rfl
theorem q1214 : (Jvm.Cond.methodLink "RankEntryLaw" (123 : Nat) ({ cls := "RankEntry", name := "state", desc := "(I)I" } : Jvm.MethodName)) ∈ lw_all := lw_g (lw_at lw_m5 196 rfl) rfl
theorem q1220 : (Jvm.Cond.methodLink "RankEntryLaw" (127 : Nat) ({ cls := "RankEntry", name := "count", desc := "(I)I" } : Jvm.MethodName)) ∈ lw_all := lw_g (lw_at lw_m5 202 rfl) rfl
theorem q1224 : (Jvm.Cond.methodLink "RankEntryLaw" (135 : Nat) ({ cls := "RankEntry", name := "waited", desc := "(I)I" } : Jvm.MethodName)) ∈ lw_all := lw_g (lw_at lw_m5 206 rfl) rfl
theorem q1228 : (Jvm.Cond.methodLink "RankEntryLaw" (139 : Nat) ({ cls := "RankEntry", name := "ahead", desc := "(II)Z" } : Jvm.MethodName)) ∈ lw_all := lw_g (lw_at lw_m5 210 rfl) rfl
theorem q1234 : (Jvm.Cond.methodLink "RankEntryLaw" (143 : Nat) ({ cls := "RankEntry", name := "splits", desc := "(I)I" } : Jvm.MethodName)) ∈ lw_all := lw_g (lw_at lw_m5 216 rfl) rfl
theorem q1267 : (Jvm.Cond.methodLink "RankEntryLaw" (147 : Nat) ({ cls := "RankEntry", name := "escalates", desc := "(I)I" } : Jvm.MethodName)) ∈ lw_all := lw_g (lw_at lw_m6 9 rfl) rfl
theorem q1272 : (Jvm.Cond.methodLink "RankEntryLaw" (151 : Nat) ({ cls := "RankEntry", name := "soon", desc := "(I)I" } : Jvm.MethodName)) ∈ lw_all := lw_g (lw_at lw_m6 14 rfl) rfl
theorem q1276 : (Jvm.Cond.methodLink "RankEntryLaw" (155 : Nat) ({ cls := "RankEntry", name := "order", desc := "(IZ)I" } : Jvm.MethodName)) ∈ lw_all := lw_g (lw_at lw_m6 18 rfl) rfl
theorem q1280 : (Jvm.Cond.methodLink "RankEntryLaw" (160 : Nat) ({ cls := "RankEntry", name := "quiet", desc := "(Z)I" } : Jvm.MethodName)) ∈ lw_all := lw_g (lw_at lw_m6 22 rfl) rfl
theorem q1288 : (Jvm.Cond.methodLink "RankEntryLaw" (165 : Nat) ({ cls := "RankEntry", name := "window", desc := "(I)I" } : Jvm.MethodName)) ∈ lw_all := lw_g (lw_at lw_m6 30 rfl) rfl
theorem q1292 : (Jvm.Cond.methodLink "RankEntryLaw" (169 : Nat) ({ cls := "RankEntry", name := "keeps", desc := "()I" } : Jvm.MethodName)) ∈ lw_all := lw_g (lw_at lw_m6 34 rfl) rfl
theorem q1300 : (Jvm.Cond.methodLink "RankEntryLaw" (173 : Nat) ({ cls := "RankEntry", name := "cost", desc := "(I)I" } : Jvm.MethodName)) ∈ lw_all := lw_g (lw_at lw_m6 42 rfl) rfl
theorem q1505 : (Jvm.Cond.methodLink "RankEntryLaw" (177 : Nat) ({ cls := "RankEntry", name := "pushes", desc := "(I)I" } : Jvm.MethodName)) ∈ lw_all := lw_g (lw_at lw_m7 7 rfl) rfl
theorem q1509 : (Jvm.Cond.methodLink "RankEntryLaw" (181 : Nat) ({ cls := "RankEntry", name := "room", desc := "(Z)I" } : Jvm.MethodName)) ∈ lw_all := lw_g (lw_at lw_m7 11 rfl) rfl
theorem q1514 : (Jvm.Cond.methodLink "RankEntryLaw" (97 : Nat) ({ cls := "RankEntryLaw", name := "reg", desc := "(LRankEntry;I[J)I" } : Jvm.MethodName)) ∈ lw_all := lw_g (lw_at lw_m7 16 rfl) rfl
theorem q1515 : (Jvm.Cond.static ({ cls := "RankEntryLaw", name := "reg", desc := "(LRankEntry;I[J)I" } : Jvm.MethodName)) ∈ lw_all := lw_g (lw_at lw_m7 17 rfl) rfl
theorem q1516 : (Jvm.Cond.codeWith ({ cls := "RankEntryLaw", name := "reg", desc := "(LRankEntry;I[J)I" } : Jvm.MethodName) method_3_code (4 : Nat) (Option.some Jvm.ClassFile.FieldType.int) [((0 : Nat), (9 : Nat), (12 : Nat), (13 : Nat))]) ∈ lw_all := lw_g (lw_at lw_m7 18 rfl) rfl
theorem q1517 : (Jvm.Cond.classLink "RankEntryLaw" (13 : Nat) "java/util/NoSuchElementException") ∈ lw_all := lw_g (lw_at lw_m7 19 rfl) rfl
theorem q1518 : (Jvm.Cond.methodLink "RankEntryLaw" (7 : Nat) ({ cls := "RankEntry", name := "reg", desc := "(I)I" } : Jvm.MethodName)) ∈ lw_all := lw_g (lw_at lw_m7 20 rfl) rfl
theorem q1543 : (Jvm.Cond.methodLink "RankEntryLaw" (106 : Nat) ({ cls := "RankEntryLaw", name := "word", desc := "(LRankEntry;I[J)I" } : Jvm.MethodName)) ∈ lw_all := lw_g (lw_at lw_m7 45 rfl) rfl
theorem q1544 : (Jvm.Cond.static ({ cls := "RankEntryLaw", name := "word", desc := "(LRankEntry;I[J)I" } : Jvm.MethodName)) ∈ lw_all := lw_g (lw_at lw_m7 46 rfl) rfl
theorem q1545 : (Jvm.Cond.codeWith ({ cls := "RankEntryLaw", name := "word", desc := "(LRankEntry;I[J)I" } : Jvm.MethodName) method_4_code (4 : Nat) (Option.some Jvm.ClassFile.FieldType.int) [((0 : Nat), (9 : Nat), (12 : Nat), (18 : Nat))]) ∈ lw_all := lw_g (lw_at lw_m7 47 rfl) rfl
theorem q1546 : (Jvm.Cond.classLink "RankEntryLaw" (18 : Nat) "java/lang/IndexOutOfBoundsException") ∈ lw_all := lw_g (lw_at lw_m7 48 rfl) rfl
theorem q1578 : (Jvm.Cond.methodLink "RankEntryLaw" (15 : Nat) ({ cls := "RankEntry", name := "word", desc := "(I)I" } : Jvm.MethodName)) ∈ lw_all := lw_g (lw_at lw_m7 80 rfl) rfl
theorem q1597 : (Jvm.Cond.methodLink "RankEntryLaw" (109 : Nat) ({ cls := "RankEntryLaw", name := "data", desc := "(LRankEntry;I[J)I" } : Jvm.MethodName)) ∈ lw_all := lw_g (lw_at lw_m7 99 rfl) rfl
theorem q1598 : (Jvm.Cond.static ({ cls := "RankEntryLaw", name := "data", desc := "(LRankEntry;I[J)I" } : Jvm.MethodName)) ∈ lw_all := lw_g (lw_at lw_m7 100 rfl) rfl
theorem q1599 : (Jvm.Cond.codeWith ({ cls := "RankEntryLaw", name := "data", desc := "(LRankEntry;I[J)I" } : Jvm.MethodName) method_5_code (4 : Nat) (Option.some Jvm.ClassFile.FieldType.int) [((0 : Nat), (9 : Nat), (12 : Nat), (18 : Nat))]) ∈ lw_all := lw_g (lw_at lw_m7 101 rfl) rfl
theorem q1600 : (Jvm.Cond.methodLink "RankEntryLaw" (20 : Nat) ({ cls := "RankEntry", name := "data", desc := "(I)I" } : Jvm.MethodName)) ∈ lw_all := lw_g (lw_at lw_m7 102 rfl) rfl
theorem q1604 : (Jvm.Cond.methodLink "RankEntryLaw" (112 : Nat) ({ cls := "RankEntryLaw", name := "out", desc := "(LRankEntry;I[J)I" } : Jvm.MethodName)) ∈ lw_all := lw_g (lw_at lw_m7 106 rfl) rfl
theorem q1605 : (Jvm.Cond.static ({ cls := "RankEntryLaw", name := "out", desc := "(LRankEntry;I[J)I" } : Jvm.MethodName)) ∈ lw_all := lw_g (lw_at lw_m7 107 rfl) rfl
theorem q1606 : (Jvm.Cond.codeWith ({ cls := "RankEntryLaw", name := "out", desc := "(LRankEntry;I[J)I" } : Jvm.MethodName) method_6_code (4 : Nat) (Option.some Jvm.ClassFile.FieldType.int) [((0 : Nat), (9 : Nat), (12 : Nat), (13 : Nat))]) ∈ lw_all := lw_g (lw_at lw_m7 108 rfl) rfl
theorem q1607 : (Jvm.Cond.methodLink "RankEntryLaw" (23 : Nat) ({ cls := "RankEntry", name := "out", desc := "(I)I" } : Jvm.MethodName)) ∈ lw_all := lw_g (lw_at lw_m7 109 rfl) rfl
theorem q1611 : (Jvm.Cond.methodLink "RankEntryLaw" (131 : Nat) ({ cls := "RankEntryLaw", name := "event", desc := "(LRankEntry;II[J)I" } : Jvm.MethodName)) ∈ lw_all := lw_g (lw_at lw_m7 113 rfl) rfl
theorem q1612 : (Jvm.Cond.static ({ cls := "RankEntryLaw", name := "event", desc := "(LRankEntry;II[J)I" } : Jvm.MethodName)) ∈ lw_all := lw_g (lw_at lw_m7 114 rfl) rfl
theorem q1613 : (Jvm.Cond.codeWith ({ cls := "RankEntryLaw", name := "event", desc := "(LRankEntry;II[J)I" } : Jvm.MethodName) method_7_code (5 : Nat) (Option.some Jvm.ClassFile.FieldType.int) [((0 : Nat), (10 : Nat), (13 : Nat), (13 : Nat))]) ∈ lw_all := lw_g (lw_at lw_m7 115 rfl) rfl
theorem q1614 : (Jvm.Cond.methodLink "RankEntryLaw" (26 : Nat) ({ cls := "RankEntry", name := "event", desc := "(II)I" } : Jvm.MethodName)) ∈ lw_all := lw_g (lw_at lw_m7 116 rfl) rfl
theorem q1722 : (Jvm.Cond.classLink "RankEntryLaw" (31 : Nat) "RankEntryModel") ∈ lw_all := lw_g (lw_at lw_m7 224 rfl) rfl
theorem q1724 : (Jvm.Cond.methodLink "RankEntryLaw" (33 : Nat) ({ cls := "RankEntryModel", name := "<init>", desc := "()V" } : Jvm.MethodName)) ∈ lw_all := lw_g (lw_at lw_m7 226 rfl) rfl
theorem q1809 : (Jvm.Cond.methodLink "RankEntryLaw" (103 : Nat) ({ cls := "RankEntryModel", name := "thrown", desc := "()I" } : Jvm.MethodName)) ∈ lw_all := lw_g (lw_at lw_m8 71 rfl) rfl
theorem q1813 : (Jvm.Cond.methodLink "RankEntryLaw" (40 : Nat) ({ cls := "RankEntryModel", name := "load", desc := "(IJ)Z" } : Jvm.MethodName)) ∈ lw_all := lw_g (lw_at lw_m8 75 rfl) rfl
theorem q1821 : (Jvm.Cond.methodLink "RankEntryLaw" (44 : Nat) ({ cls := "RankEntryModel", name := "code", desc := "(I)I" } : Jvm.MethodName)) ∈ lw_all := lw_g (lw_at lw_m8 83 rfl) rfl
theorem q1825 : (Jvm.Cond.methodLink "RankEntryLaw" (49 : Nat) ({ cls := "RankEntryModel", name := "rank", desc := "(II)Z" } : Jvm.MethodName)) ∈ lw_all := lw_g (lw_at lw_m8 87 rfl) rfl
theorem q1829 : (Jvm.Cond.methodLink "RankEntryLaw" (54 : Nat) ({ cls := "RankEntryModel", name := "enable", desc := "(IZ)Z" } : Jvm.MethodName)) ∈ lw_all := lw_g (lw_at lw_m8 91 rfl) rfl
theorem q1833 : (Jvm.Cond.methodLink "RankEntryLaw" (58 : Nat) ({ cls := "RankEntryModel", name := "vector", desc := "(II)Z" } : Jvm.MethodName)) ∈ lw_all := lw_g (lw_at lw_m8 95 rfl) rfl
theorem q1837 : (Jvm.Cond.methodLink "RankEntryLaw" (63 : Nat) ({ cls := "RankEntryModel", name := "split", desc := "(I)Z" } : Jvm.MethodName)) ∈ lw_all := lw_g (lw_at lw_m8 99 rfl) rfl
theorem q1841 : (Jvm.Cond.methodLink "RankEntryLaw" (67 : Nat) ({ cls := "RankEntryModel", name := "hold", desc := "(IZ)Z" } : Jvm.MethodName)) ∈ lw_all := lw_g (lw_at lw_m8 103 rfl) rfl
theorem q1853 : (Jvm.Cond.methodLink "RankEntryLaw" (71 : Nat) ({ cls := "RankEntryModel", name := "pend", desc := "(I)Z" } : Jvm.MethodName)) ∈ lw_all := lw_g (lw_at lw_m8 115 rfl) rfl
theorem q1857 : (Jvm.Cond.methodLink "RankEntryLaw" (75 : Nat) ({ cls := "RankEntryModel", name := "clear", desc := "(I)Z" } : Jvm.MethodName)) ∈ lw_all := lw_g (lw_at lw_m8 119 rfl) rfl
theorem q1861 : (Jvm.Cond.methodLink "RankEntryLaw" (79 : Nat) ({ cls := "RankEntryModel", name := "timer", desc := "(I)Z" } : Jvm.MethodName)) ∈ lw_all := lw_g (lw_at lw_m8 123 rfl) rfl
theorem q1865 : (Jvm.Cond.methodLink "RankEntryLaw" (83 : Nat) ({ cls := "RankEntryModel", name := "arrive", desc := "(II)Z" } : Jvm.MethodName)) ∈ lw_all := lw_g (lw_at lw_m8 127 rfl) rfl
theorem q1869 : (Jvm.Cond.methodLink "RankEntryLaw" (87 : Nat) ({ cls := "RankEntryModel", name := "run", desc := "(I)I" } : Jvm.MethodName)) ∈ lw_all := lw_g (lw_at lw_m8 131 rfl) rfl
theorem q2042 : (Jvm.Cond.methodLink "RankEntryLaw" (91 : Nat) ({ cls := "RankEntryModel", name := "till", desc := "(I)I" } : Jvm.MethodName)) ∈ lw_all := lw_g (lw_at lw_m9 64 rfl) rfl
theorem q2046 : (Jvm.Cond.methodLink "RankEntryLaw" (96 : Nat) ({ cls := "RankEntryModel", name := "reset", desc := "()I" } : Jvm.MethodName)) ∈ lw_all := lw_g (lw_at lw_m9 68 rfl) rfl
theorem q2050 : (Jvm.Cond.methodLink "RankEntryLaw" (102 : Nat) ({ cls := "RankEntryModel", name := "reg", desc := "(I)I" } : Jvm.MethodName)) ∈ lw_all := lw_g (lw_at lw_m9 72 rfl) rfl
theorem q2054 : (Jvm.Cond.methodLink "RankEntryLaw" (108 : Nat) ({ cls := "RankEntryModel", name := "word", desc := "(I)I" } : Jvm.MethodName)) ∈ lw_all := lw_g (lw_at lw_m9 76 rfl) rfl
theorem q2058 : (Jvm.Cond.methodLink "RankEntryLaw" (111 : Nat) ({ cls := "RankEntryModel", name := "data", desc := "(I)I" } : Jvm.MethodName)) ∈ lw_all := lw_g (lw_at lw_m9 80 rfl) rfl
theorem q2062 : (Jvm.Cond.methodLink "RankEntryLaw" (114 : Nat) ({ cls := "RankEntryModel", name := "out", desc := "(I)I" } : Jvm.MethodName)) ∈ lw_all := lw_g (lw_at lw_m9 84 rfl) rfl
theorem q2066 : (Jvm.Cond.methodLink "RankEntryLaw" (118 : Nat) ({ cls := "RankEntryModel", name := "source", desc := "(II)I" } : Jvm.MethodName)) ∈ lw_all := lw_g (lw_at lw_m9 88 rfl) rfl
theorem q2070 : (Jvm.Cond.methodLink "RankEntryLaw" (122 : Nat) ({ cls := "RankEntryModel", name := "nest", desc := "(I)I" } : Jvm.MethodName)) ∈ lw_all := lw_g (lw_at lw_m9 92 rfl) rfl
theorem q2074 : (Jvm.Cond.methodLink "RankEntryLaw" (126 : Nat) ({ cls := "RankEntryModel", name := "state", desc := "(I)I" } : Jvm.MethodName)) ∈ lw_all := lw_g (lw_at lw_m9 96 rfl) rfl
theorem q2078 : (Jvm.Cond.methodLink "RankEntryLaw" (130 : Nat) ({ cls := "RankEntryModel", name := "count", desc := "(I)I" } : Jvm.MethodName)) ∈ lw_all := lw_g (lw_at lw_m9 100 rfl) rfl
theorem q2082 : (Jvm.Cond.methodLink "RankEntryLaw" (134 : Nat) ({ cls := "RankEntryModel", name := "event", desc := "(II)I" } : Jvm.MethodName)) ∈ lw_all := lw_g (lw_at lw_m9 104 rfl) rfl
theorem q2086 : (Jvm.Cond.methodLink "RankEntryLaw" (138 : Nat) ({ cls := "RankEntryModel", name := "waited", desc := "(I)I" } : Jvm.MethodName)) ∈ lw_all := lw_g (lw_at lw_m9 108 rfl) rfl
theorem q2090 : (Jvm.Cond.methodLink "RankEntryLaw" (142 : Nat) ({ cls := "RankEntryModel", name := "ahead", desc := "(II)Z" } : Jvm.MethodName)) ∈ lw_all := lw_g (lw_at lw_m9 112 rfl) rfl
theorem q2094 : (Jvm.Cond.methodLink "RankEntryLaw" (146 : Nat) ({ cls := "RankEntryModel", name := "splits", desc := "(I)I" } : Jvm.MethodName)) ∈ lw_all := lw_g (lw_at lw_m9 116 rfl) rfl
theorem q2098 : (Jvm.Cond.methodLink "RankEntryLaw" (150 : Nat) ({ cls := "RankEntryModel", name := "escalates", desc := "(I)I" } : Jvm.MethodName)) ∈ lw_all := lw_g (lw_at lw_m9 120 rfl) rfl
theorem q2102 : (Jvm.Cond.methodLink "RankEntryLaw" (154 : Nat) ({ cls := "RankEntryModel", name := "soon", desc := "(I)I" } : Jvm.MethodName)) ∈ lw_all := lw_g (lw_at lw_m9 124 rfl) rfl
theorem q2110 : (Jvm.Cond.methodLink "RankEntryLaw" (159 : Nat) ({ cls := "RankEntryModel", name := "order", desc := "(IZ)I" } : Jvm.MethodName)) ∈ lw_all := lw_g (lw_at lw_m9 132 rfl) rfl
theorem q2114 : (Jvm.Cond.methodLink "RankEntryLaw" (164 : Nat) ({ cls := "RankEntryModel", name := "quiet", desc := "(Z)I" } : Jvm.MethodName)) ∈ lw_all := lw_g (lw_at lw_m9 136 rfl) rfl
theorem q2118 : (Jvm.Cond.methodLink "RankEntryLaw" (168 : Nat) ({ cls := "RankEntryModel", name := "window", desc := "(I)I" } : Jvm.MethodName)) ∈ lw_all := lw_g (lw_at lw_m9 140 rfl) rfl
theorem q2122 : (Jvm.Cond.methodLink "RankEntryLaw" (172 : Nat) ({ cls := "RankEntryModel", name := "keeps", desc := "()I" } : Jvm.MethodName)) ∈ lw_all := lw_g (lw_at lw_m9 144 rfl) rfl
theorem q2130 : (Jvm.Cond.methodLink "RankEntryLaw" (176 : Nat) ({ cls := "RankEntryModel", name := "cost", desc := "(I)I" } : Jvm.MethodName)) ∈ lw_all := lw_g (lw_at lw_m9 152 rfl) rfl
theorem q2150 : (Jvm.Cond.methodLink "RankEntryLaw" (180 : Nat) ({ cls := "RankEntryModel", name := "pushes", desc := "(I)I" } : Jvm.MethodName)) ∈ lw_all := lw_g (lw_at lw_m9 172 rfl) rfl
theorem q2154 : (Jvm.Cond.methodLink "RankEntryLaw" (184 : Nat) ({ cls := "RankEntryModel", name := "room", desc := "(Z)I" } : Jvm.MethodName)) ∈ lw_all := lw_g (lw_at lw_m9 176 rfl) rfl
theorem q2158 : (Jvm.Cond.constantLong "RankEntryLaw" (34 : Nat) (4294967295 : Int64)) ∈ lw_all := lw_g (lw_at lw_m9 180 rfl) rfl
/-! RankEntry$Op$13 -/
set_option maxRecDepth 100000
def RX10 : String := "RankEntry$Op$13"
abbrev cX10_does : ByteArray := prog_20_method_2_code
def yX10_does : MethodName := ⟨RX10, "does", "(LRankEntry$Core;II)V"⟩
def dkwX10_does_1 : List UInt8 := [177]
abbrev dktX10_does_1 : List UInt8 := dkwX10_does_1 ++ []
def dkwX10_does_0 : List UInt8 := [43, 43, 180, 0, 7, 4, 160, 0, 11, 28, 29, 184, 0, 13, 167, 0, 7, 43, 180, 0, 19, 181, 0, 19]
abbrev dktX10_does_0 : List UInt8 := dkwX10_does_0 ++ dktX10_does_1
theorem dksX10_does_0 : cX10_does.data.toList.drop 0 = dktX10_does_0 := by decide +kernel
theorem dksX10_does_1 : cX10_does.data.toList.drop 24 = dktX10_does_1 := dk_seg dksX10_does_0 24 rfl rfl
theorem dX10_does_0 : decode cX10_does 0 = .ok (.aload_n 1, 1) := dk_43 (dk_at dksX10_does_0 0 rfl rfl)
theorem dX10_does_1 : decode cX10_does 1 = .ok (.aload_n 1, 1) := dk_43 (dk_at dksX10_does_0 1 rfl rfl)
theorem dX10_does_2 : decode cX10_does 2 = .ok (.getfield 7, 3) := dk_180 0 7 (dk_at dksX10_does_0 2 rfl rfl)
theorem dX10_does_5 : decode cX10_does 5 = .ok (.iconst 1, 1) := dk_4 (dk_at dksX10_does_0 5 rfl rfl)
theorem dX10_does_6 : decode cX10_does 6 = .ok (.if_icmp .ne 11, 3) := dk_160 0 11 (dk_at dksX10_does_0 6 rfl rfl)
theorem dX10_does_9 : decode cX10_does 9 = .ok (.iload_n 2, 1) := dk_28 (dk_at dksX10_does_0 9 rfl rfl)
theorem dX10_does_10 : decode cX10_does 10 = .ok (.iload_n 3, 1) := dk_29 (dk_at dksX10_does_0 10 rfl rfl)
theorem dX10_does_11 : decode cX10_does 11 = .ok (.invokestatic 13, 3) := dk_184 0 13 (dk_at dksX10_does_0 11 rfl rfl)
theorem dX10_does_14 : decode cX10_does 14 = .ok (.goto 7, 3) := dk_167 0 7 (dk_at dksX10_does_0 14 rfl rfl)
theorem dX10_does_17 : decode cX10_does 17 = .ok (.aload_n 1, 1) := dk_43 (dk_at dksX10_does_0 17 rfl rfl)
theorem dX10_does_18 : decode cX10_does 18 = .ok (.getfield 19, 3) := dk_180 0 19 (dk_at dksX10_does_0 18 rfl rfl)
theorem dX10_does_21 : decode cX10_does 21 = .ok (.putfield 19, 3) := dk_181 0 19 (dk_at dksX10_does_0 21 rfl rfl)
theorem dX10_does_24 : decode cX10_does 24 = .ok (.return_, 1) := dk_177 (dk_at dksX10_does_1 0 rfl rfl)
abbrev cX10_jumps : ByteArray := prog_20_method_3_code
def yX10_jumps : MethodName := ⟨RX10, "jumps", "()Z"⟩
theorem dX10_jumps_0 : decode cX10_jumps 0 = .ok (.iconst 1, 1) := by decide +kernel
theorem dX10_jumps_1 : decode cX10_jumps 1 = .ok (.ireturn, 1) := by decide +kernel
theorem q74 : (Jvm.Cond.initialized "RankEntry$Op$13") ∈ lw_all := lw_g (lw_at lw_m1 16 rfl) rfl
theorem q369 : (Jvm.Cond.selects "RankEntry$Op$13" ({ cls := "RankEntry$Op", name := "isFloat", desc := "()Z" } : Jvm.MethodName) ({ cls := "RankEntry$Op", name := "isFloat", desc := "()Z" } : Jvm.MethodName)) ∈ lw_all := lw_g (lw_at lw_m2 71 rfl) rfl
theorem q450 : (Jvm.Cond.selects "RankEntry$Op$13" ({ cls := "RankEntry$Op", name := "does", desc := "(LRankEntry$Core;II)V" } : Jvm.MethodName) ({ cls := "RankEntry$Op$13", name := "does", desc := "(LRankEntry$Core;II)V" } : Jvm.MethodName)) ∈ lw_all := lw_g (lw_at lw_m2 152 rfl) rfl
theorem q451 : (Jvm.Cond.instanceMethod ({ cls := "RankEntry$Op$13", name := "does", desc := "(LRankEntry$Core;II)V" } : Jvm.MethodName)) ∈ lw_all := lw_g (lw_at lw_m2 153 rfl) rfl
theorem q452 : (Jvm.Cond.code ({ cls := "RankEntry$Op$13", name := "does", desc := "(LRankEntry$Core;II)V" } : Jvm.MethodName) prog_20_method_2_code (4 : Nat) (Option.none : Option Jvm.ClassFile.FieldType)) ∈ lw_all := lw_g (lw_at lw_m2 154 rfl) rfl
theorem q453 : (Jvm.Cond.methodLink "RankEntry$Op$13" (13 : Nat) ({ cls := "RankEntry$Op$13", name := "target", desc := "(II)I" } : Jvm.MethodName)) ∈ lw_all := lw_g (lw_at lw_m2 155 rfl) rfl
theorem q454 : (Jvm.Cond.sameMethod "RankEntry$Op$13" "RankEntry$Op" "target" "(II)I") ∈ lw_all := lw_g (lw_at lw_m2 156 rfl) rfl
theorem q883 : (Jvm.Cond.fieldLinkNest "RankEntry$Op$13" (7 : Nat) "RankEntry$Core" "n" "I" "RankEntry") ∈ lw_tbl := lw_at lw_m4 105 rfl
theorem q888 : (Jvm.Cond.fieldLinkNest "RankEntry$Op$13" (19 : Nat) "RankEntry$Core" "pc" "I" "RankEntry") ∈ lw_tbl := lw_at lw_m4 110 rfl
theorem q1320 : (Jvm.Cond.selects "RankEntry$Op$13" ({ cls := "RankEntry$Op", name := "stops", desc := "()Z" } : Jvm.MethodName) ({ cls := "RankEntry$Op", name := "stops", desc := "()Z" } : Jvm.MethodName)) ∈ lw_all := lw_g (lw_at lw_m6 62 rfl) rfl
theorem q1355 : (Jvm.Cond.selects "RankEntry$Op$13" ({ cls := "RankEntry$Op", name := "ways", desc := "()I" } : Jvm.MethodName) ({ cls := "RankEntry$Op", name := "ways", desc := "()I" } : Jvm.MethodName)) ∈ lw_all := lw_g (lw_at lw_m6 97 rfl) rfl
theorem q1390 : (Jvm.Cond.selects "RankEntry$Op$13" ({ cls := "RankEntry$Op", name := "goesOn", desc := "()Z" } : Jvm.MethodName) ({ cls := "RankEntry$Op", name := "goesOn", desc := "()Z" } : Jvm.MethodName)) ∈ lw_all := lw_g (lw_at lw_m6 132 rfl) rfl
theorem q1429 : (Jvm.Cond.selects "RankEntry$Op$13" ({ cls := "RankEntry$Op", name := "jumps", desc := "()Z" } : Jvm.MethodName) ({ cls := "RankEntry$Op$13", name := "jumps", desc := "()Z" } : Jvm.MethodName)) ∈ lw_all := lw_g (lw_at lw_m6 171 rfl) rfl
theorem q1430 : (Jvm.Cond.instanceMethod ({ cls := "RankEntry$Op$13", name := "jumps", desc := "()Z" } : Jvm.MethodName)) ∈ lw_all := lw_g (lw_at lw_m6 172 rfl) rfl
theorem q1431 : (Jvm.Cond.code ({ cls := "RankEntry$Op$13", name := "jumps", desc := "()Z" } : Jvm.MethodName) prog_20_method_3_code (1 : Nat) (Option.some Jvm.ClassFile.FieldType.boolean)) ∈ lw_all := lw_g (lw_at lw_m6 173 rfl) rfl
theorem q1477 : (Jvm.Cond.selects "RankEntry$Op$13" ({ cls := "RankEntry$Op", name := "pushes", desc := "()I" } : Jvm.MethodName) ({ cls := "RankEntry$Op", name := "pushes", desc := "()I" } : Jvm.MethodName)) ∈ lw_all := lw_g (lw_at lw_m6 219 rfl) rfl
theorem q2177 : (Jvm.Cond.castable "RankEntry$Op$13" "java/lang/Object") ∈ lw_tbl := lw_at lw_m9 199 rfl
theorem q2224 : (Jvm.Cond.castable "RankEntry$Op$13" "RankEntry$Op") ∈ lw_tbl := lw_at lw_m10 6 rfl
/-! RankEntry$Ended -/
set_option maxRecDepth 100000
def RX11 : String := "RankEntry$Ended"
def TX11 : u_T := fun k => match k with
  | 0 => ("RankEntry$Ended", "source", "I", true)
  | 1 => ("RankEntry$Ended", "clock", "I", true)
  | _ => ("RankEntry$Ended", "more", "I", true)
def tyX11 : Nat → FieldType := fun k => match k with
  | 0 => .int
  | 1 => .int
  | _ => .int
abbrev wsX110 : List Cond := u_ws RX11 TX11 3
theorem nmX11 : ∀ a, a < 3 → ∀ b, b < 3 → a ≠ b → (TX11 a).2.1 ≠ (TX11 b).2.1 := by decide +kernel
theorem tyX11_ok : ∀ k, k < 3 → parseFieldDescriptor (TX11 k).2.2.1 = some (tyX11 k) := by decide +kernel
abbrev cX11_init : ByteArray := prog_9_method_1_code
def yX11_init : MethodName := ⟨RX11, "<init>", "(III)V"⟩
def dkwX11_init_0 : List UInt8 := [42, 183, 0, 1, 42, 27, 181, 0, 7, 42, 28, 181, 0, 13, 42, 29, 181, 0, 16, 177]
abbrev dktX11_init_0 : List UInt8 := dkwX11_init_0 ++ []
theorem dksX11_init_0 : cX11_init.data.toList.drop 0 = dktX11_init_0 := by decide +kernel
theorem dX11_init_0 : decode cX11_init 0 = .ok (.aload_n 0, 1) := dk_42 (dk_at dksX11_init_0 0 rfl rfl)
theorem dX11_init_1 : decode cX11_init 1 = .ok (.invokespecial 1, 3) := dk_183 0 1 (dk_at dksX11_init_0 1 rfl rfl)
theorem dX11_init_4 : decode cX11_init 4 = .ok (.aload_n 0, 1) := dk_42 (dk_at dksX11_init_0 4 rfl rfl)
theorem dX11_init_5 : decode cX11_init 5 = .ok (.iload_n 1, 1) := dk_27 (dk_at dksX11_init_0 5 rfl rfl)
theorem dX11_init_6 : decode cX11_init 6 = .ok (.putfield 7, 3) := dk_181 0 7 (dk_at dksX11_init_0 6 rfl rfl)
theorem dX11_init_9 : decode cX11_init 9 = .ok (.aload_n 0, 1) := dk_42 (dk_at dksX11_init_0 9 rfl rfl)
theorem dX11_init_10 : decode cX11_init 10 = .ok (.iload_n 2, 1) := dk_28 (dk_at dksX11_init_0 10 rfl rfl)
theorem dX11_init_11 : decode cX11_init 11 = .ok (.putfield 13, 3) := dk_181 0 13 (dk_at dksX11_init_0 11 rfl rfl)
theorem dX11_init_14 : decode cX11_init 14 = .ok (.aload_n 0, 1) := dk_42 (dk_at dksX11_init_0 14 rfl rfl)
theorem dX11_init_15 : decode cX11_init 15 = .ok (.iload_n 3, 1) := dk_29 (dk_at dksX11_init_0 15 rfl rfl)
theorem dX11_init_16 : decode cX11_init 16 = .ok (.putfield 16, 3) := dk_181 0 16 (dk_at dksX11_init_0 16 rfl rfl)
theorem dX11_init_19 : decode cX11_init 19 = .ok (.return_, 1) := dk_177 (dk_at dksX11_init_0 19 rfl rfl)
abbrev cX11_source : ByteArray := prog_9_method_5_code
def yX11_source : MethodName := ⟨RX11, "source", "()I"⟩
theorem dX11_source_0 : decode cX11_source 0 = .ok (.aload_n 0, 1) := by decide +kernel
theorem dX11_source_1 : decode cX11_source 1 = .ok (.getfield 7, 3) := by decide +kernel
theorem dX11_source_4 : decode cX11_source 4 = .ok (.ireturn, 1) := by decide +kernel
abbrev cX11_clock : ByteArray := prog_9_method_6_code
def yX11_clock : MethodName := ⟨RX11, "clock", "()I"⟩
theorem dX11_clock_0 : decode cX11_clock 0 = .ok (.aload_n 0, 1) := by decide +kernel
theorem dX11_clock_1 : decode cX11_clock 1 = .ok (.getfield 13, 3) := by decide +kernel
theorem dX11_clock_4 : decode cX11_clock 4 = .ok (.ireturn, 1) := by decide +kernel
abbrev cX11_more : ByteArray := prog_9_method_7_code
def yX11_more : MethodName := ⟨RX11, "more", "()I"⟩
theorem dX11_more_0 : decode cX11_more 0 = .ok (.aload_n 0, 1) := by decide +kernel
theorem dX11_more_1 : decode cX11_more 1 = .ok (.getfield 16, 3) := by decide +kernel
theorem dX11_more_4 : decode cX11_more 4 = .ok (.ireturn, 1) := by decide +kernel
theorem q75 : (Jvm.Cond.initialized "RankEntry$Ended") ∈ lw_all := lw_g (lw_at lw_m1 17 rfl) rfl
theorem q491 : (Jvm.Cond.instantiable "RankEntry$Ended" (3 : Nat)) ∈ lw_all := lw_g (lw_at lw_m2 193 rfl) rfl
theorem q493 : (Jvm.Cond.instanceMethod ({ cls := "RankEntry$Ended", name := "<init>", desc := "(III)V" } : Jvm.MethodName)) ∈ lw_all := lw_g (lw_at lw_m2 195 rfl) rfl
theorem q494 : (Jvm.Cond.code ({ cls := "RankEntry$Ended", name := "<init>", desc := "(III)V" } : Jvm.MethodName) prog_9_method_1_code (4 : Nat) (Option.none : Option Jvm.ClassFile.FieldType)) ∈ lw_all := lw_g (lw_at lw_m2 196 rfl) rfl
theorem q495 : (Jvm.Cond.methodLink "RankEntry$Ended" (1 : Nat) ({ cls := "java/lang/Record", name := "<init>", desc := "()V" } : Jvm.MethodName)) ∈ lw_all := lw_g (lw_at lw_m2 197 rfl) rfl
theorem q496 : (Jvm.Cond.fieldLink "RankEntry$Ended" (7 : Nat) "RankEntry$Ended" "source" "I") ∈ lw_all := lw_g (lw_at lw_m2 198 rfl) rfl
theorem q497 : (Jvm.Cond.fieldLink "RankEntry$Ended" (13 : Nat) "RankEntry$Ended" "clock" "I") ∈ lw_all := lw_g (lw_at lw_m2 199 rfl) rfl
theorem q498 : (Jvm.Cond.fieldLink "RankEntry$Ended" (16 : Nat) "RankEntry$Ended" "more" "I") ∈ lw_all := lw_g (lw_at lw_m2 200 rfl) rfl
theorem q499 : (Jvm.Cond.laysFinal "RankEntry$Ended" "RankEntry$Ended" "source" "I") ∈ lw_all := lw_g (lw_at lw_m2 201 rfl) rfl
theorem q500 : (Jvm.Cond.soleField "RankEntry$Ended" "source") ∈ lw_all := lw_g (lw_at lw_m2 202 rfl) rfl
theorem q501 : (Jvm.Cond.laysFinal "RankEntry$Ended" "RankEntry$Ended" "clock" "I") ∈ lw_all := lw_g (lw_at lw_m2 203 rfl) rfl
theorem q502 : (Jvm.Cond.soleField "RankEntry$Ended" "clock") ∈ lw_all := lw_g (lw_at lw_m2 204 rfl) rfl
theorem q503 : (Jvm.Cond.laysFinal "RankEntry$Ended" "RankEntry$Ended" "more" "I") ∈ lw_all := lw_g (lw_at lw_m2 205 rfl) rfl
theorem q504 : (Jvm.Cond.soleField "RankEntry$Ended" "more") ∈ lw_all := lw_g (lw_at lw_m2 206 rfl) rfl
theorem q505 : (Jvm.Cond.superclass "RankEntry$Ended" "java/lang/Record") ∈ lw_all := lw_g (lw_at lw_m2 207 rfl) rfl
theorem q1646 : (Jvm.Cond.castable "RankEntry$Ended" "RankEntry$Event") ∈ lw_tbl := lw_at lw_m7 148 rfl
theorem q1647 : (Jvm.Cond.selects "RankEntry$Ended" ({ cls := "RankEntry$Event", name := "source", desc := "()I" } : Jvm.MethodName) ({ cls := "RankEntry$Ended", name := "source", desc := "()I" } : Jvm.MethodName)) ∈ lw_all := lw_g (lw_at lw_m7 149 rfl) rfl
theorem q1648 : (Jvm.Cond.unhidden "RankEntry$Ended" "source" "()I") ∈ lw_tbl := lw_at lw_m7 150 rfl
theorem q1649 : (Jvm.Cond.instanceMethod ({ cls := "RankEntry$Ended", name := "source", desc := "()I" } : Jvm.MethodName)) ∈ lw_all := lw_g (lw_at lw_m7 151 rfl) rfl
theorem q1650 : (Jvm.Cond.publicMethod ({ cls := "RankEntry$Ended", name := "source", desc := "()I" } : Jvm.MethodName)) ∈ lw_tbl := lw_at lw_m7 152 rfl
theorem q1651 : (Jvm.Cond.code ({ cls := "RankEntry$Ended", name := "source", desc := "()I" } : Jvm.MethodName) prog_9_method_5_code (1 : Nat) (Option.some Jvm.ClassFile.FieldType.int)) ∈ lw_all := lw_g (lw_at lw_m7 153 rfl) rfl
theorem q1678 : (Jvm.Cond.selects "RankEntry$Ended" ({ cls := "RankEntry$Event", name := "clock", desc := "()I" } : Jvm.MethodName) ({ cls := "RankEntry$Ended", name := "clock", desc := "()I" } : Jvm.MethodName)) ∈ lw_all := lw_g (lw_at lw_m7 180 rfl) rfl
theorem q1679 : (Jvm.Cond.unhidden "RankEntry$Ended" "clock" "()I") ∈ lw_tbl := lw_at lw_m7 181 rfl
theorem q1680 : (Jvm.Cond.instanceMethod ({ cls := "RankEntry$Ended", name := "clock", desc := "()I" } : Jvm.MethodName)) ∈ lw_all := lw_g (lw_at lw_m7 182 rfl) rfl
theorem q1681 : (Jvm.Cond.publicMethod ({ cls := "RankEntry$Ended", name := "clock", desc := "()I" } : Jvm.MethodName)) ∈ lw_tbl := lw_at lw_m7 183 rfl
theorem q1682 : (Jvm.Cond.code ({ cls := "RankEntry$Ended", name := "clock", desc := "()I" } : Jvm.MethodName) prog_9_method_6_code (1 : Nat) (Option.some Jvm.ClassFile.FieldType.int)) ∈ lw_all := lw_g (lw_at lw_m7 184 rfl) rfl
theorem q1707 : (Jvm.Cond.selects "RankEntry$Ended" ({ cls := "RankEntry$Event", name := "more", desc := "()I" } : Jvm.MethodName) ({ cls := "RankEntry$Ended", name := "more", desc := "()I" } : Jvm.MethodName)) ∈ lw_all := lw_g (lw_at lw_m7 209 rfl) rfl
theorem q1708 : (Jvm.Cond.unhidden "RankEntry$Ended" "more" "()I") ∈ lw_tbl := lw_at lw_m7 210 rfl
theorem q1709 : (Jvm.Cond.instanceMethod ({ cls := "RankEntry$Ended", name := "more", desc := "()I" } : Jvm.MethodName)) ∈ lw_all := lw_g (lw_at lw_m7 211 rfl) rfl
theorem q1710 : (Jvm.Cond.publicMethod ({ cls := "RankEntry$Ended", name := "more", desc := "()I" } : Jvm.MethodName)) ∈ lw_tbl := lw_at lw_m7 212 rfl
theorem q1711 : (Jvm.Cond.code ({ cls := "RankEntry$Ended", name := "more", desc := "()I" } : Jvm.MethodName) prog_9_method_7_code (1 : Nat) (Option.some Jvm.ClassFile.FieldType.int)) ∈ lw_all := lw_g (lw_at lw_m7 213 rfl) rfl
theorem q2198 : (Jvm.Cond.castable "RankEntry$Ended" "java/lang/Object") ∈ lw_tbl := lw_at lw_m9 220 rfl
theorem in_X11 : ∀ w ∈ wsX110, w ∈ lw_all := lw_in wsX110 [499, 501, 503] (by decide +kernel) (by decide +kernel)
/-! RankEntry$Abandoned -/
set_option maxRecDepth 100000
def RX12 : String := "RankEntry$Abandoned"
def TX12 : u_T := fun k => match k with
  | 0 => ("RankEntry$Abandoned", "source", "I", true)
  | 1 => ("RankEntry$Abandoned", "clock", "I", true)
  | _ => ("RankEntry$Abandoned", "more", "I", true)
def tyX12 : Nat → FieldType := fun k => match k with
  | 0 => .int
  | 1 => .int
  | _ => .int
abbrev wsX120 : List Cond := u_ws RX12 TX12 3
theorem nmX12 : ∀ a, a < 3 → ∀ b, b < 3 → a ≠ b → (TX12 a).2.1 ≠ (TX12 b).2.1 := by decide +kernel
theorem tyX12_ok : ∀ k, k < 3 → parseFieldDescriptor (TX12 k).2.2.1 = some (tyX12 k) := by decide +kernel
abbrev cX12_init : ByteArray := prog_2_method_1_code
def yX12_init : MethodName := ⟨RX12, "<init>", "(III)V"⟩
def dkwX12_init_0 : List UInt8 := [42, 183, 0, 1, 42, 27, 181, 0, 7, 42, 28, 181, 0, 13, 42, 29, 181, 0, 16, 177]
abbrev dktX12_init_0 : List UInt8 := dkwX12_init_0 ++ []
theorem dksX12_init_0 : cX12_init.data.toList.drop 0 = dktX12_init_0 := by decide +kernel
theorem dX12_init_0 : decode cX12_init 0 = .ok (.aload_n 0, 1) := dk_42 (dk_at dksX12_init_0 0 rfl rfl)
theorem dX12_init_1 : decode cX12_init 1 = .ok (.invokespecial 1, 3) := dk_183 0 1 (dk_at dksX12_init_0 1 rfl rfl)
theorem dX12_init_4 : decode cX12_init 4 = .ok (.aload_n 0, 1) := dk_42 (dk_at dksX12_init_0 4 rfl rfl)
theorem dX12_init_5 : decode cX12_init 5 = .ok (.iload_n 1, 1) := dk_27 (dk_at dksX12_init_0 5 rfl rfl)
theorem dX12_init_6 : decode cX12_init 6 = .ok (.putfield 7, 3) := dk_181 0 7 (dk_at dksX12_init_0 6 rfl rfl)
theorem dX12_init_9 : decode cX12_init 9 = .ok (.aload_n 0, 1) := dk_42 (dk_at dksX12_init_0 9 rfl rfl)
theorem dX12_init_10 : decode cX12_init 10 = .ok (.iload_n 2, 1) := dk_28 (dk_at dksX12_init_0 10 rfl rfl)
theorem dX12_init_11 : decode cX12_init 11 = .ok (.putfield 13, 3) := dk_181 0 13 (dk_at dksX12_init_0 11 rfl rfl)
theorem dX12_init_14 : decode cX12_init 14 = .ok (.aload_n 0, 1) := dk_42 (dk_at dksX12_init_0 14 rfl rfl)
theorem dX12_init_15 : decode cX12_init 15 = .ok (.iload_n 3, 1) := dk_29 (dk_at dksX12_init_0 15 rfl rfl)
theorem dX12_init_16 : decode cX12_init 16 = .ok (.putfield 16, 3) := dk_181 0 16 (dk_at dksX12_init_0 16 rfl rfl)
theorem dX12_init_19 : decode cX12_init 19 = .ok (.return_, 1) := dk_177 (dk_at dksX12_init_0 19 rfl rfl)
abbrev cX12_source : ByteArray := prog_2_method_5_code
def yX12_source : MethodName := ⟨RX12, "source", "()I"⟩
theorem dX12_source_0 : decode cX12_source 0 = .ok (.aload_n 0, 1) := by decide +kernel
theorem dX12_source_1 : decode cX12_source 1 = .ok (.getfield 7, 3) := by decide +kernel
theorem dX12_source_4 : decode cX12_source 4 = .ok (.ireturn, 1) := by decide +kernel
abbrev cX12_clock : ByteArray := prog_2_method_6_code
def yX12_clock : MethodName := ⟨RX12, "clock", "()I"⟩
theorem dX12_clock_0 : decode cX12_clock 0 = .ok (.aload_n 0, 1) := by decide +kernel
theorem dX12_clock_1 : decode cX12_clock 1 = .ok (.getfield 13, 3) := by decide +kernel
theorem dX12_clock_4 : decode cX12_clock 4 = .ok (.ireturn, 1) := by decide +kernel
abbrev cX12_more : ByteArray := prog_2_method_7_code
def yX12_more : MethodName := ⟨RX12, "more", "()I"⟩
theorem dX12_more_0 : decode cX12_more 0 = .ok (.aload_n 0, 1) := by decide +kernel
theorem dX12_more_1 : decode cX12_more 1 = .ok (.getfield 16, 3) := by decide +kernel
theorem dX12_more_4 : decode cX12_more 4 = .ok (.ireturn, 1) := by decide +kernel
theorem q76 : (Jvm.Cond.initialized "RankEntry$Abandoned") ∈ lw_all := lw_g (lw_at lw_m1 18 rfl) rfl
theorem q635 : (Jvm.Cond.instantiable "RankEntry$Abandoned" (3 : Nat)) ∈ lw_all := lw_g (lw_at lw_m3 97 rfl) rfl
theorem q637 : (Jvm.Cond.instanceMethod ({ cls := "RankEntry$Abandoned", name := "<init>", desc := "(III)V" } : Jvm.MethodName)) ∈ lw_all := lw_g (lw_at lw_m3 99 rfl) rfl
theorem q638 : (Jvm.Cond.code ({ cls := "RankEntry$Abandoned", name := "<init>", desc := "(III)V" } : Jvm.MethodName) prog_2_method_1_code (4 : Nat) (Option.none : Option Jvm.ClassFile.FieldType)) ∈ lw_all := lw_g (lw_at lw_m3 100 rfl) rfl
theorem q639 : (Jvm.Cond.methodLink "RankEntry$Abandoned" (1 : Nat) ({ cls := "java/lang/Record", name := "<init>", desc := "()V" } : Jvm.MethodName)) ∈ lw_all := lw_g (lw_at lw_m3 101 rfl) rfl
theorem q640 : (Jvm.Cond.fieldLink "RankEntry$Abandoned" (7 : Nat) "RankEntry$Abandoned" "source" "I") ∈ lw_all := lw_g (lw_at lw_m3 102 rfl) rfl
theorem q641 : (Jvm.Cond.fieldLink "RankEntry$Abandoned" (13 : Nat) "RankEntry$Abandoned" "clock" "I") ∈ lw_all := lw_g (lw_at lw_m3 103 rfl) rfl
theorem q642 : (Jvm.Cond.fieldLink "RankEntry$Abandoned" (16 : Nat) "RankEntry$Abandoned" "more" "I") ∈ lw_all := lw_g (lw_at lw_m3 104 rfl) rfl
theorem q643 : (Jvm.Cond.laysFinal "RankEntry$Abandoned" "RankEntry$Abandoned" "source" "I") ∈ lw_all := lw_g (lw_at lw_m3 105 rfl) rfl
theorem q644 : (Jvm.Cond.soleField "RankEntry$Abandoned" "source") ∈ lw_all := lw_g (lw_at lw_m3 106 rfl) rfl
theorem q645 : (Jvm.Cond.laysFinal "RankEntry$Abandoned" "RankEntry$Abandoned" "clock" "I") ∈ lw_all := lw_g (lw_at lw_m3 107 rfl) rfl
theorem q646 : (Jvm.Cond.soleField "RankEntry$Abandoned" "clock") ∈ lw_all := lw_g (lw_at lw_m3 108 rfl) rfl
theorem q647 : (Jvm.Cond.laysFinal "RankEntry$Abandoned" "RankEntry$Abandoned" "more" "I") ∈ lw_all := lw_g (lw_at lw_m3 109 rfl) rfl
theorem q648 : (Jvm.Cond.soleField "RankEntry$Abandoned" "more") ∈ lw_all := lw_g (lw_at lw_m3 110 rfl) rfl
theorem q649 : (Jvm.Cond.superclass "RankEntry$Abandoned" "java/lang/Record") ∈ lw_all := lw_g (lw_at lw_m3 111 rfl) rfl
theorem q1634 : (Jvm.Cond.castable "RankEntry$Abandoned" "RankEntry$Event") ∈ lw_tbl := lw_at lw_m7 136 rfl
theorem q1635 : (Jvm.Cond.selects "RankEntry$Abandoned" ({ cls := "RankEntry$Event", name := "source", desc := "()I" } : Jvm.MethodName) ({ cls := "RankEntry$Abandoned", name := "source", desc := "()I" } : Jvm.MethodName)) ∈ lw_all := lw_g (lw_at lw_m7 137 rfl) rfl
theorem q1636 : (Jvm.Cond.unhidden "RankEntry$Abandoned" "source" "()I") ∈ lw_tbl := lw_at lw_m7 138 rfl
theorem q1637 : (Jvm.Cond.instanceMethod ({ cls := "RankEntry$Abandoned", name := "source", desc := "()I" } : Jvm.MethodName)) ∈ lw_all := lw_g (lw_at lw_m7 139 rfl) rfl
theorem q1638 : (Jvm.Cond.publicMethod ({ cls := "RankEntry$Abandoned", name := "source", desc := "()I" } : Jvm.MethodName)) ∈ lw_tbl := lw_at lw_m7 140 rfl
theorem q1639 : (Jvm.Cond.code ({ cls := "RankEntry$Abandoned", name := "source", desc := "()I" } : Jvm.MethodName) prog_2_method_5_code (1 : Nat) (Option.some Jvm.ClassFile.FieldType.int)) ∈ lw_all := lw_g (lw_at lw_m7 141 rfl) rfl
theorem q1668 : (Jvm.Cond.selects "RankEntry$Abandoned" ({ cls := "RankEntry$Event", name := "clock", desc := "()I" } : Jvm.MethodName) ({ cls := "RankEntry$Abandoned", name := "clock", desc := "()I" } : Jvm.MethodName)) ∈ lw_all := lw_g (lw_at lw_m7 170 rfl) rfl
theorem q1669 : (Jvm.Cond.unhidden "RankEntry$Abandoned" "clock" "()I") ∈ lw_tbl := lw_at lw_m7 171 rfl
theorem q1670 : (Jvm.Cond.instanceMethod ({ cls := "RankEntry$Abandoned", name := "clock", desc := "()I" } : Jvm.MethodName)) ∈ lw_all := lw_g (lw_at lw_m7 172 rfl) rfl
theorem q1671 : (Jvm.Cond.publicMethod ({ cls := "RankEntry$Abandoned", name := "clock", desc := "()I" } : Jvm.MethodName)) ∈ lw_tbl := lw_at lw_m7 173 rfl
theorem q1672 : (Jvm.Cond.code ({ cls := "RankEntry$Abandoned", name := "clock", desc := "()I" } : Jvm.MethodName) prog_2_method_6_code (1 : Nat) (Option.some Jvm.ClassFile.FieldType.int)) ∈ lw_all := lw_g (lw_at lw_m7 174 rfl) rfl
theorem q1697 : (Jvm.Cond.selects "RankEntry$Abandoned" ({ cls := "RankEntry$Event", name := "more", desc := "()I" } : Jvm.MethodName) ({ cls := "RankEntry$Abandoned", name := "more", desc := "()I" } : Jvm.MethodName)) ∈ lw_all := lw_g (lw_at lw_m7 199 rfl) rfl
theorem q1698 : (Jvm.Cond.unhidden "RankEntry$Abandoned" "more" "()I") ∈ lw_tbl := lw_at lw_m7 200 rfl
theorem q1699 : (Jvm.Cond.instanceMethod ({ cls := "RankEntry$Abandoned", name := "more", desc := "()I" } : Jvm.MethodName)) ∈ lw_all := lw_g (lw_at lw_m7 201 rfl) rfl
theorem q1700 : (Jvm.Cond.publicMethod ({ cls := "RankEntry$Abandoned", name := "more", desc := "()I" } : Jvm.MethodName)) ∈ lw_tbl := lw_at lw_m7 202 rfl
theorem q1701 : (Jvm.Cond.code ({ cls := "RankEntry$Abandoned", name := "more", desc := "()I" } : Jvm.MethodName) prog_2_method_7_code (1 : Nat) (Option.some Jvm.ClassFile.FieldType.int)) ∈ lw_all := lw_g (lw_at lw_m7 203 rfl) rfl
theorem q2199 : (Jvm.Cond.castable "RankEntry$Abandoned" "java/lang/Object") ∈ lw_tbl := lw_at lw_m9 221 rfl
theorem in_X12 : ∀ w ∈ wsX120, w ∈ lw_all := lw_in wsX120 [643, 645, 647] (by decide +kernel) (by decide +kernel)
/-! RankEntry$Returned -/
set_option maxRecDepth 100000
def RX13 : String := "RankEntry$Returned"
def TX13 : u_T := fun k => match k with
  | 0 => ("RankEntry$Returned", "source", "I", true)
  | 1 => ("RankEntry$Returned", "clock", "I", true)
  | _ => ("RankEntry$Returned", "more", "I", true)
def tyX13 : Nat → FieldType := fun k => match k with
  | 0 => .int
  | 1 => .int
  | _ => .int
abbrev wsX130 : List Cond := u_ws RX13 TX13 3
theorem nmX13 : ∀ a, a < 3 → ∀ b, b < 3 → a ≠ b → (TX13 a).2.1 ≠ (TX13 b).2.1 := by decide +kernel
theorem tyX13_ok : ∀ k, k < 3 → parseFieldDescriptor (TX13 k).2.2.1 = some (tyX13 k) := by decide +kernel
abbrev cX13_init : ByteArray := prog_47_method_1_code
def yX13_init : MethodName := ⟨RX13, "<init>", "(III)V"⟩
def dkwX13_init_0 : List UInt8 := [42, 183, 0, 1, 42, 27, 181, 0, 7, 42, 28, 181, 0, 13, 42, 29, 181, 0, 16, 177]
abbrev dktX13_init_0 : List UInt8 := dkwX13_init_0 ++ []
theorem dksX13_init_0 : cX13_init.data.toList.drop 0 = dktX13_init_0 := by decide +kernel
theorem dX13_init_0 : decode cX13_init 0 = .ok (.aload_n 0, 1) := dk_42 (dk_at dksX13_init_0 0 rfl rfl)
theorem dX13_init_1 : decode cX13_init 1 = .ok (.invokespecial 1, 3) := dk_183 0 1 (dk_at dksX13_init_0 1 rfl rfl)
theorem dX13_init_4 : decode cX13_init 4 = .ok (.aload_n 0, 1) := dk_42 (dk_at dksX13_init_0 4 rfl rfl)
theorem dX13_init_5 : decode cX13_init 5 = .ok (.iload_n 1, 1) := dk_27 (dk_at dksX13_init_0 5 rfl rfl)
theorem dX13_init_6 : decode cX13_init 6 = .ok (.putfield 7, 3) := dk_181 0 7 (dk_at dksX13_init_0 6 rfl rfl)
theorem dX13_init_9 : decode cX13_init 9 = .ok (.aload_n 0, 1) := dk_42 (dk_at dksX13_init_0 9 rfl rfl)
theorem dX13_init_10 : decode cX13_init 10 = .ok (.iload_n 2, 1) := dk_28 (dk_at dksX13_init_0 10 rfl rfl)
theorem dX13_init_11 : decode cX13_init 11 = .ok (.putfield 13, 3) := dk_181 0 13 (dk_at dksX13_init_0 11 rfl rfl)
theorem dX13_init_14 : decode cX13_init 14 = .ok (.aload_n 0, 1) := dk_42 (dk_at dksX13_init_0 14 rfl rfl)
theorem dX13_init_15 : decode cX13_init 15 = .ok (.iload_n 3, 1) := dk_29 (dk_at dksX13_init_0 15 rfl rfl)
theorem dX13_init_16 : decode cX13_init 16 = .ok (.putfield 16, 3) := dk_181 0 16 (dk_at dksX13_init_0 16 rfl rfl)
theorem dX13_init_19 : decode cX13_init 19 = .ok (.return_, 1) := dk_177 (dk_at dksX13_init_0 19 rfl rfl)
abbrev cX13_source : ByteArray := prog_47_method_5_code
def yX13_source : MethodName := ⟨RX13, "source", "()I"⟩
theorem dX13_source_0 : decode cX13_source 0 = .ok (.aload_n 0, 1) := by decide +kernel
theorem dX13_source_1 : decode cX13_source 1 = .ok (.getfield 7, 3) := by decide +kernel
theorem dX13_source_4 : decode cX13_source 4 = .ok (.ireturn, 1) := by decide +kernel
abbrev cX13_clock : ByteArray := prog_47_method_6_code
def yX13_clock : MethodName := ⟨RX13, "clock", "()I"⟩
theorem dX13_clock_0 : decode cX13_clock 0 = .ok (.aload_n 0, 1) := by decide +kernel
theorem dX13_clock_1 : decode cX13_clock 1 = .ok (.getfield 13, 3) := by decide +kernel
theorem dX13_clock_4 : decode cX13_clock 4 = .ok (.ireturn, 1) := by decide +kernel
abbrev cX13_more : ByteArray := prog_47_method_7_code
def yX13_more : MethodName := ⟨RX13, "more", "()I"⟩
theorem dX13_more_0 : decode cX13_more 0 = .ok (.aload_n 0, 1) := by decide +kernel
theorem dX13_more_1 : decode cX13_more 1 = .ok (.getfield 16, 3) := by decide +kernel
theorem dX13_more_4 : decode cX13_more 4 = .ok (.ireturn, 1) := by decide +kernel
theorem q77 : (Jvm.Cond.initialized "RankEntry$Returned") ∈ lw_all := lw_g (lw_at lw_m1 19 rfl) rfl
theorem q672 : (Jvm.Cond.instantiable "RankEntry$Returned" (3 : Nat)) ∈ lw_all := lw_g (lw_at lw_m3 134 rfl) rfl
theorem q674 : (Jvm.Cond.instanceMethod ({ cls := "RankEntry$Returned", name := "<init>", desc := "(III)V" } : Jvm.MethodName)) ∈ lw_all := lw_g (lw_at lw_m3 136 rfl) rfl
theorem q675 : (Jvm.Cond.code ({ cls := "RankEntry$Returned", name := "<init>", desc := "(III)V" } : Jvm.MethodName) prog_47_method_1_code (4 : Nat) (Option.none : Option Jvm.ClassFile.FieldType)) ∈ lw_all := lw_g (lw_at lw_m3 137 rfl) rfl
theorem q676 : (Jvm.Cond.methodLink "RankEntry$Returned" (1 : Nat) ({ cls := "java/lang/Record", name := "<init>", desc := "()V" } : Jvm.MethodName)) ∈ lw_all := lw_g (lw_at lw_m3 138 rfl) rfl
theorem q677 : (Jvm.Cond.fieldLink "RankEntry$Returned" (7 : Nat) "RankEntry$Returned" "source" "I") ∈ lw_all := lw_g (lw_at lw_m3 139 rfl) rfl
theorem q678 : (Jvm.Cond.fieldLink "RankEntry$Returned" (13 : Nat) "RankEntry$Returned" "clock" "I") ∈ lw_all := lw_g (lw_at lw_m3 140 rfl) rfl
theorem q679 : (Jvm.Cond.fieldLink "RankEntry$Returned" (16 : Nat) "RankEntry$Returned" "more" "I") ∈ lw_all := lw_g (lw_at lw_m3 141 rfl) rfl
theorem q680 : (Jvm.Cond.laysFinal "RankEntry$Returned" "RankEntry$Returned" "source" "I") ∈ lw_all := lw_g (lw_at lw_m3 142 rfl) rfl
theorem q681 : (Jvm.Cond.soleField "RankEntry$Returned" "source") ∈ lw_all := lw_g (lw_at lw_m3 143 rfl) rfl
theorem q682 : (Jvm.Cond.laysFinal "RankEntry$Returned" "RankEntry$Returned" "clock" "I") ∈ lw_all := lw_g (lw_at lw_m3 144 rfl) rfl
theorem q683 : (Jvm.Cond.soleField "RankEntry$Returned" "clock") ∈ lw_all := lw_g (lw_at lw_m3 145 rfl) rfl
theorem q684 : (Jvm.Cond.laysFinal "RankEntry$Returned" "RankEntry$Returned" "more" "I") ∈ lw_all := lw_g (lw_at lw_m3 146 rfl) rfl
theorem q685 : (Jvm.Cond.soleField "RankEntry$Returned" "more") ∈ lw_all := lw_g (lw_at lw_m3 147 rfl) rfl
theorem q686 : (Jvm.Cond.superclass "RankEntry$Returned" "java/lang/Record") ∈ lw_all := lw_g (lw_at lw_m3 148 rfl) rfl
theorem q1658 : (Jvm.Cond.castable "RankEntry$Returned" "RankEntry$Event") ∈ lw_tbl := lw_at lw_m7 160 rfl
theorem q1659 : (Jvm.Cond.selects "RankEntry$Returned" ({ cls := "RankEntry$Event", name := "source", desc := "()I" } : Jvm.MethodName) ({ cls := "RankEntry$Returned", name := "source", desc := "()I" } : Jvm.MethodName)) ∈ lw_all := lw_g (lw_at lw_m7 161 rfl) rfl
theorem q1660 : (Jvm.Cond.unhidden "RankEntry$Returned" "source" "()I") ∈ lw_tbl := lw_at lw_m7 162 rfl
theorem q1661 : (Jvm.Cond.instanceMethod ({ cls := "RankEntry$Returned", name := "source", desc := "()I" } : Jvm.MethodName)) ∈ lw_all := lw_g (lw_at lw_m7 163 rfl) rfl
theorem q1662 : (Jvm.Cond.publicMethod ({ cls := "RankEntry$Returned", name := "source", desc := "()I" } : Jvm.MethodName)) ∈ lw_tbl := lw_at lw_m7 164 rfl
theorem q1663 : (Jvm.Cond.code ({ cls := "RankEntry$Returned", name := "source", desc := "()I" } : Jvm.MethodName) prog_47_method_5_code (1 : Nat) (Option.some Jvm.ClassFile.FieldType.int)) ∈ lw_all := lw_g (lw_at lw_m7 165 rfl) rfl
theorem q1688 : (Jvm.Cond.selects "RankEntry$Returned" ({ cls := "RankEntry$Event", name := "clock", desc := "()I" } : Jvm.MethodName) ({ cls := "RankEntry$Returned", name := "clock", desc := "()I" } : Jvm.MethodName)) ∈ lw_all := lw_g (lw_at lw_m7 190 rfl) rfl
theorem q1689 : (Jvm.Cond.unhidden "RankEntry$Returned" "clock" "()I") ∈ lw_tbl := lw_at lw_m7 191 rfl
theorem q1690 : (Jvm.Cond.instanceMethod ({ cls := "RankEntry$Returned", name := "clock", desc := "()I" } : Jvm.MethodName)) ∈ lw_all := lw_g (lw_at lw_m7 192 rfl) rfl
theorem q1691 : (Jvm.Cond.publicMethod ({ cls := "RankEntry$Returned", name := "clock", desc := "()I" } : Jvm.MethodName)) ∈ lw_tbl := lw_at lw_m7 193 rfl
theorem q1692 : (Jvm.Cond.code ({ cls := "RankEntry$Returned", name := "clock", desc := "()I" } : Jvm.MethodName) prog_47_method_6_code (1 : Nat) (Option.some Jvm.ClassFile.FieldType.int)) ∈ lw_all := lw_g (lw_at lw_m7 194 rfl) rfl
theorem q1717 : (Jvm.Cond.selects "RankEntry$Returned" ({ cls := "RankEntry$Event", name := "more", desc := "()I" } : Jvm.MethodName) ({ cls := "RankEntry$Returned", name := "more", desc := "()I" } : Jvm.MethodName)) ∈ lw_all := lw_g (lw_at lw_m7 219 rfl) rfl
theorem q1718 : (Jvm.Cond.unhidden "RankEntry$Returned" "more" "()I") ∈ lw_tbl := lw_at lw_m7 220 rfl
theorem q1719 : (Jvm.Cond.instanceMethod ({ cls := "RankEntry$Returned", name := "more", desc := "()I" } : Jvm.MethodName)) ∈ lw_all := lw_g (lw_at lw_m7 221 rfl) rfl
theorem q1720 : (Jvm.Cond.publicMethod ({ cls := "RankEntry$Returned", name := "more", desc := "()I" } : Jvm.MethodName)) ∈ lw_tbl := lw_at lw_m7 222 rfl
theorem q1721 : (Jvm.Cond.code ({ cls := "RankEntry$Returned", name := "more", desc := "()I" } : Jvm.MethodName) prog_47_method_7_code (1 : Nat) (Option.some Jvm.ClassFile.FieldType.int)) ∈ lw_all := lw_g (lw_at lw_m7 223 rfl) rfl
theorem q2200 : (Jvm.Cond.castable "RankEntry$Returned" "java/lang/Object") ∈ lw_tbl := lw_at lw_m9 222 rfl
theorem in_X13 : ∀ w ∈ wsX130, w ∈ lw_all := lw_in wsX130 [680, 682, 684] (by decide +kernel) (by decide +kernel)
/-! RankEntry$Source -/
set_option maxRecDepth 100000
def RX14 : String := "RankEntry$Source"
abbrev cX14_group : ByteArray := prog_48_method_2_code
def yX14_group : MethodName := ⟨RX14, "group", "(I)I"⟩
def dkwX14_group_0 : List UInt8 := [42, 180, 0, 9, 27, 122, 172]
abbrev dktX14_group_0 : List UInt8 := dkwX14_group_0 ++ []
theorem dksX14_group_0 : cX14_group.data.toList.drop 0 = dktX14_group_0 := by decide +kernel
theorem dX14_group_0 : decode cX14_group 0 = .ok (.aload_n 0, 1) := dk_42 (dk_at dksX14_group_0 0 rfl rfl)
theorem dX14_group_1 : decode cX14_group 1 = .ok (.getfield 9, 3) := dk_180 0 9 (dk_at dksX14_group_0 1 rfl rfl)
theorem dX14_group_4 : decode cX14_group 4 = .ok (.iload_n 1, 1) := dk_27 (dk_at dksX14_group_0 4 rfl rfl)
theorem dX14_group_5 : decode cX14_group 5 = .ok (.ishr, 1) := dk_122 (dk_at dksX14_group_0 5 rfl rfl)
theorem dX14_group_6 : decode cX14_group 6 = .ok (.ireturn, 1) := dk_172 (dk_at dksX14_group_0 6 rfl rfl)
abbrev cX14_becomes : ByteArray := prog_48_method_5_code
def yX14_becomes : MethodName := ⟨RX14, "becomes", "(I)Z"⟩
def dkwX14_becomes_0 : List UInt8 := [42, 180, 0, 25, 153, 0, 5, 3, 172, 42, 4, 181, 0, 25, 42, 27, 181, 0, 29, 4, 172]
abbrev dktX14_becomes_0 : List UInt8 := dkwX14_becomes_0 ++ []
theorem dksX14_becomes_0 : cX14_becomes.data.toList.drop 0 = dktX14_becomes_0 := by decide +kernel
theorem dX14_becomes_0 : decode cX14_becomes 0 = .ok (.aload_n 0, 1) := dk_42 (dk_at dksX14_becomes_0 0 rfl rfl)
theorem dX14_becomes_1 : decode cX14_becomes 1 = .ok (.getfield 25, 3) := dk_180 0 25 (dk_at dksX14_becomes_0 1 rfl rfl)
theorem dX14_becomes_4 : decode cX14_becomes 4 = .ok (.ifCond .eq 5, 3) := dk_153 0 5 (dk_at dksX14_becomes_0 4 rfl rfl)
theorem dX14_becomes_7 : decode cX14_becomes 7 = .ok (.iconst 0, 1) := dk_3 (dk_at dksX14_becomes_0 7 rfl rfl)
theorem dX14_becomes_8 : decode cX14_becomes 8 = .ok (.ireturn, 1) := dk_172 (dk_at dksX14_becomes_0 8 rfl rfl)
theorem dX14_becomes_9 : decode cX14_becomes 9 = .ok (.aload_n 0, 1) := dk_42 (dk_at dksX14_becomes_0 9 rfl rfl)
theorem dX14_becomes_10 : decode cX14_becomes 10 = .ok (.iconst 1, 1) := dk_4 (dk_at dksX14_becomes_0 10 rfl rfl)
theorem dX14_becomes_11 : decode cX14_becomes 11 = .ok (.putfield 25, 3) := dk_181 0 25 (dk_at dksX14_becomes_0 11 rfl rfl)
theorem dX14_becomes_14 : decode cX14_becomes 14 = .ok (.aload_n 0, 1) := dk_42 (dk_at dksX14_becomes_0 14 rfl rfl)
theorem dX14_becomes_15 : decode cX14_becomes 15 = .ok (.iload_n 1, 1) := dk_27 (dk_at dksX14_becomes_0 15 rfl rfl)
theorem dX14_becomes_16 : decode cX14_becomes 16 = .ok (.putfield 29, 3) := dk_181 0 29 (dk_at dksX14_becomes_0 16 rfl rfl)
theorem dX14_becomes_19 : decode cX14_becomes 19 = .ok (.iconst 1, 1) := dk_4 (dk_at dksX14_becomes_0 19 rfl rfl)
theorem dX14_becomes_20 : decode cX14_becomes 20 = .ok (.ireturn, 1) := dk_172 (dk_at dksX14_becomes_0 20 rfl rfl)
abbrev cX14_begins : ByteArray := prog_48_method_9_code
def yX14_begins : MethodName := ⟨RX14, "begins", "(I)V"⟩
def dkwX14_begins_1 : List UInt8 := [180, 0, 15, 164, 0, 12, 27, 42, 180, 0, 29, 100, 167, 0, 7, 42, 180, 0, 15, 181, 0, 15, 177]
abbrev dktX14_begins_1 : List UInt8 := dkwX14_begins_1 ++ []
def dkwX14_begins_0 : List UInt8 := [42, 3, 181, 0, 25, 42, 4, 181, 0, 32, 42, 27, 181, 0, 35, 42, 27, 42, 180, 0, 29, 100, 42]
abbrev dktX14_begins_0 : List UInt8 := dkwX14_begins_0 ++ dktX14_begins_1
theorem dksX14_begins_0 : cX14_begins.data.toList.drop 0 = dktX14_begins_0 := by decide +kernel
theorem dksX14_begins_1 : cX14_begins.data.toList.drop 23 = dktX14_begins_1 := dk_seg dksX14_begins_0 23 rfl rfl
theorem dX14_begins_0 : decode cX14_begins 0 = .ok (.aload_n 0, 1) := dk_42 (dk_at dksX14_begins_0 0 rfl rfl)
theorem dX14_begins_1 : decode cX14_begins 1 = .ok (.iconst 0, 1) := dk_3 (dk_at dksX14_begins_0 1 rfl rfl)
theorem dX14_begins_2 : decode cX14_begins 2 = .ok (.putfield 25, 3) := dk_181 0 25 (dk_at dksX14_begins_0 2 rfl rfl)
theorem dX14_begins_5 : decode cX14_begins 5 = .ok (.aload_n 0, 1) := dk_42 (dk_at dksX14_begins_0 5 rfl rfl)
theorem dX14_begins_6 : decode cX14_begins 6 = .ok (.iconst 1, 1) := dk_4 (dk_at dksX14_begins_0 6 rfl rfl)
theorem dX14_begins_7 : decode cX14_begins 7 = .ok (.putfield 32, 3) := dk_181 0 32 (dk_at dksX14_begins_0 7 rfl rfl)
theorem dX14_begins_10 : decode cX14_begins 10 = .ok (.aload_n 0, 1) := dk_42 (dk_at dksX14_begins_0 10 rfl rfl)
theorem dX14_begins_11 : decode cX14_begins 11 = .ok (.iload_n 1, 1) := dk_27 (dk_at dksX14_begins_0 11 rfl rfl)
theorem dX14_begins_12 : decode cX14_begins 12 = .ok (.putfield 35, 3) := dk_181 0 35 (dk_at dksX14_begins_0 12 rfl rfl)
theorem dX14_begins_15 : decode cX14_begins 15 = .ok (.aload_n 0, 1) := dk_42 (dk_at dksX14_begins_0 15 rfl rfl)
theorem dX14_begins_16 : decode cX14_begins 16 = .ok (.iload_n 1, 1) := dk_27 (dk_at dksX14_begins_0 16 rfl rfl)
theorem dX14_begins_17 : decode cX14_begins 17 = .ok (.aload_n 0, 1) := dk_42 (dk_at dksX14_begins_0 17 rfl rfl)
theorem dX14_begins_18 : decode cX14_begins 18 = .ok (.getfield 29, 3) := dk_180 0 29 (dk_at dksX14_begins_0 18 rfl rfl)
theorem dX14_begins_21 : decode cX14_begins 21 = .ok (.isub, 1) := dk_100 (dk_at dksX14_begins_0 21 rfl rfl)
theorem dX14_begins_22 : decode cX14_begins 22 = .ok (.aload_n 0, 1) := dk_42 (dk_at dksX14_begins_0 22 rfl rfl)
theorem dX14_begins_23 : decode cX14_begins 23 = .ok (.getfield 15, 3) := dk_180 0 15 (dk_at dksX14_begins_1 0 rfl rfl)
theorem dX14_begins_26 : decode cX14_begins 26 = .ok (.if_icmp .le 12, 3) := dk_164 0 12 (dk_at dksX14_begins_1 3 rfl rfl)
theorem dX14_begins_29 : decode cX14_begins 29 = .ok (.iload_n 1, 1) := dk_27 (dk_at dksX14_begins_1 6 rfl rfl)
theorem dX14_begins_30 : decode cX14_begins 30 = .ok (.aload_n 0, 1) := dk_42 (dk_at dksX14_begins_1 7 rfl rfl)
theorem dX14_begins_31 : decode cX14_begins 31 = .ok (.getfield 29, 3) := dk_180 0 29 (dk_at dksX14_begins_1 8 rfl rfl)
theorem dX14_begins_34 : decode cX14_begins 34 = .ok (.isub, 1) := dk_100 (dk_at dksX14_begins_1 11 rfl rfl)
theorem dX14_begins_35 : decode cX14_begins 35 = .ok (.goto 7, 3) := dk_167 0 7 (dk_at dksX14_begins_1 12 rfl rfl)
theorem dX14_begins_38 : decode cX14_begins 38 = .ok (.aload_n 0, 1) := dk_42 (dk_at dksX14_begins_1 15 rfl rfl)
theorem dX14_begins_39 : decode cX14_begins 39 = .ok (.getfield 15, 3) := dk_180 0 15 (dk_at dksX14_begins_1 16 rfl rfl)
theorem dX14_begins_42 : decode cX14_begins 42 = .ok (.putfield 15, 3) := dk_181 0 15 (dk_at dksX14_begins_1 19 rfl rfl)
theorem dX14_begins_45 : decode cX14_begins 45 = .ok (.return_, 1) := dk_177 (dk_at dksX14_begins_1 22 rfl rfl)
abbrev cX14_drops : ByteArray := prog_48_method_6_code
def yX14_drops : MethodName := ⟨RX14, "drops", "()Z"⟩
def dkwX14_drops_0 : List UInt8 := [42, 180, 0, 25, 60, 42, 3, 181, 0, 25, 27, 172]
abbrev dktX14_drops_0 : List UInt8 := dkwX14_drops_0 ++ []
theorem dksX14_drops_0 : cX14_drops.data.toList.drop 0 = dktX14_drops_0 := by decide +kernel
theorem dX14_drops_0 : decode cX14_drops 0 = .ok (.aload_n 0, 1) := dk_42 (dk_at dksX14_drops_0 0 rfl rfl)
theorem dX14_drops_1 : decode cX14_drops 1 = .ok (.getfield 25, 3) := dk_180 0 25 (dk_at dksX14_drops_0 1 rfl rfl)
theorem dX14_drops_4 : decode cX14_drops 4 = .ok (.istore_n 1, 1) := dk_60 (dk_at dksX14_drops_0 4 rfl rfl)
theorem dX14_drops_5 : decode cX14_drops 5 = .ok (.aload_n 0, 1) := dk_42 (dk_at dksX14_drops_0 5 rfl rfl)
theorem dX14_drops_6 : decode cX14_drops 6 = .ok (.iconst 0, 1) := dk_3 (dk_at dksX14_drops_0 6 rfl rfl)
theorem dX14_drops_7 : decode cX14_drops 7 = .ok (.putfield 25, 3) := dk_181 0 25 (dk_at dksX14_drops_0 7 rfl rfl)
theorem dX14_drops_10 : decode cX14_drops 10 = .ok (.iload_n 1, 1) := dk_27 (dk_at dksX14_drops_0 10 rfl rfl)
theorem dX14_drops_11 : decode cX14_drops 11 = .ok (.ireturn, 1) := dk_172 (dk_at dksX14_drops_0 11 rfl rfl)
abbrev cX14_ends : ByteArray := prog_48_method_7_code
def yX14_ends : MethodName := ⟨RX14, "ends", "()Z"⟩
def dkwX14_ends_0 : List UInt8 := [42, 3, 181, 0, 32, 3, 172]
abbrev dktX14_ends_0 : List UInt8 := dkwX14_ends_0 ++ []
theorem dksX14_ends_0 : cX14_ends.data.toList.drop 0 = dktX14_ends_0 := by decide +kernel
theorem dX14_ends_0 : decode cX14_ends 0 = .ok (.aload_n 0, 1) := dk_42 (dk_at dksX14_ends_0 0 rfl rfl)
theorem dX14_ends_1 : decode cX14_ends 1 = .ok (.iconst 0, 1) := dk_3 (dk_at dksX14_ends_0 1 rfl rfl)
theorem dX14_ends_2 : decode cX14_ends 2 = .ok (.putfield 32, 3) := dk_181 0 32 (dk_at dksX14_ends_0 2 rfl rfl)
theorem dX14_ends_5 : decode cX14_ends 5 = .ok (.iconst 0, 1) := dk_3 (dk_at dksX14_ends_0 5 rfl rfl)
theorem dX14_ends_6 : decode cX14_ends 6 = .ok (.ireturn, 1) := dk_172 (dk_at dksX14_ends_0 6 rfl rfl)
abbrev cX14_sub : ByteArray := prog_48_method_3_code
def yX14_sub : MethodName := ⟨RX14, "sub", "(I)I"⟩
def dkwX14_sub_0 : List UInt8 := [42, 180, 0, 9, 42, 27, 182, 0, 21, 27, 120, 100, 172]
abbrev dktX14_sub_0 : List UInt8 := dkwX14_sub_0 ++ []
theorem dksX14_sub_0 : cX14_sub.data.toList.drop 0 = dktX14_sub_0 := by decide +kernel
theorem dX14_sub_0 : decode cX14_sub 0 = .ok (.aload_n 0, 1) := dk_42 (dk_at dksX14_sub_0 0 rfl rfl)
theorem dX14_sub_1 : decode cX14_sub 1 = .ok (.getfield 9, 3) := dk_180 0 9 (dk_at dksX14_sub_0 1 rfl rfl)
theorem dX14_sub_4 : decode cX14_sub 4 = .ok (.aload_n 0, 1) := dk_42 (dk_at dksX14_sub_0 4 rfl rfl)
theorem dX14_sub_5 : decode cX14_sub 5 = .ok (.iload_n 1, 1) := dk_27 (dk_at dksX14_sub_0 5 rfl rfl)
theorem dX14_sub_6 : decode cX14_sub 6 = .ok (.invokevirtual 21, 3) := dk_182 0 21 (dk_at dksX14_sub_0 6 rfl rfl)
theorem dX14_sub_9 : decode cX14_sub 9 = .ok (.iload_n 1, 1) := dk_27 (dk_at dksX14_sub_0 9 rfl rfl)
theorem dX14_sub_10 : decode cX14_sub 10 = .ok (.ishl, 1) := dk_120 (dk_at dksX14_sub_0 10 rfl rfl)
theorem dX14_sub_11 : decode cX14_sub 11 = .ok (.isub, 1) := dk_100 (dk_at dksX14_sub_0 11 rfl rfl)
theorem dX14_sub_12 : decode cX14_sub 12 = .ok (.ireturn, 1) := dk_172 (dk_at dksX14_sub_0 12 rfl rfl)
abbrev cX14_init : ByteArray := prog_48_method_1_code
def yX14_init : MethodName := ⟨RX14, "<init>", "(I)V"⟩
def dkwX14_init_0 : List UInt8 := [42, 183, 0, 3, 42, 17, 0, 255, 181, 0, 9, 42, 2, 181, 0, 15, 42, 27, 181, 0, 18, 177]
abbrev dktX14_init_0 : List UInt8 := dkwX14_init_0 ++ []
theorem dksX14_init_0 : cX14_init.data.toList.drop 0 = dktX14_init_0 := by decide +kernel
theorem dX14_init_0 : decode cX14_init 0 = .ok (.aload_n 0, 1) := dk_42 (dk_at dksX14_init_0 0 rfl rfl)
theorem dX14_init_1 : decode cX14_init 1 = .ok (.invokespecial 3, 3) := dk_183 0 3 (dk_at dksX14_init_0 1 rfl rfl)
theorem dX14_init_4 : decode cX14_init 4 = .ok (.aload_n 0, 1) := dk_42 (dk_at dksX14_init_0 4 rfl rfl)
theorem dX14_init_5 : decode cX14_init 5 = .ok (.sipush 255, 3) := dk_17 0 255 (dk_at dksX14_init_0 5 rfl rfl)
theorem dX14_init_8 : decode cX14_init 8 = .ok (.putfield 9, 3) := dk_181 0 9 (dk_at dksX14_init_0 8 rfl rfl)
theorem dX14_init_11 : decode cX14_init 11 = .ok (.aload_n 0, 1) := dk_42 (dk_at dksX14_init_0 11 rfl rfl)
theorem dX14_init_12 : decode cX14_init 12 = .ok (.iconst (-1), 1) := dk_2 (dk_at dksX14_init_0 12 rfl rfl)
theorem dX14_init_13 : decode cX14_init 13 = .ok (.putfield 15, 3) := dk_181 0 15 (dk_at dksX14_init_0 13 rfl rfl)
theorem dX14_init_16 : decode cX14_init 16 = .ok (.aload_n 0, 1) := dk_42 (dk_at dksX14_init_0 16 rfl rfl)
theorem dX14_init_17 : decode cX14_init 17 = .ok (.iload_n 1, 1) := dk_27 (dk_at dksX14_init_0 17 rfl rfl)
theorem dX14_init_18 : decode cX14_init 18 = .ok (.putfield 18, 3) := dk_181 0 18 (dk_at dksX14_init_0 18 rfl rfl)
theorem dX14_init_21 : decode cX14_init 21 = .ok (.return_, 1) := dk_177 (dk_at dksX14_init_0 21 rfl rfl)
abbrev cX14_forgets : ByteArray := prog_48_method_11_code
def yX14_forgets : MethodName := ⟨RX14, "forgets", "()V"⟩
def dkwX14_forgets_0 : List UInt8 := [42, 3, 181, 0, 25, 42, 3, 181, 0, 32, 42, 2, 181, 0, 15, 177]
abbrev dktX14_forgets_0 : List UInt8 := dkwX14_forgets_0 ++ []
theorem dksX14_forgets_0 : cX14_forgets.data.toList.drop 0 = dktX14_forgets_0 := by decide +kernel
theorem dX14_forgets_0 : decode cX14_forgets 0 = .ok (.aload_n 0, 1) := dk_42 (dk_at dksX14_forgets_0 0 rfl rfl)
theorem dX14_forgets_1 : decode cX14_forgets 1 = .ok (.iconst 0, 1) := dk_3 (dk_at dksX14_forgets_0 1 rfl rfl)
theorem dX14_forgets_2 : decode cX14_forgets 2 = .ok (.putfield 25, 3) := dk_181 0 25 (dk_at dksX14_forgets_0 2 rfl rfl)
theorem dX14_forgets_5 : decode cX14_forgets 5 = .ok (.aload_n 0, 1) := dk_42 (dk_at dksX14_forgets_0 5 rfl rfl)
theorem dX14_forgets_6 : decode cX14_forgets 6 = .ok (.iconst 0, 1) := dk_3 (dk_at dksX14_forgets_0 6 rfl rfl)
theorem dX14_forgets_7 : decode cX14_forgets 7 = .ok (.putfield 32, 3) := dk_181 0 32 (dk_at dksX14_forgets_0 7 rfl rfl)
theorem dX14_forgets_10 : decode cX14_forgets 10 = .ok (.aload_n 0, 1) := dk_42 (dk_at dksX14_forgets_0 10 rfl rfl)
theorem dX14_forgets_11 : decode cX14_forgets 11 = .ok (.iconst (-1), 1) := dk_2 (dk_at dksX14_forgets_0 11 rfl rfl)
theorem dX14_forgets_12 : decode cX14_forgets 12 = .ok (.putfield 15, 3) := dk_181 0 15 (dk_at dksX14_forgets_0 12 rfl rfl)
theorem dX14_forgets_15 : decode cX14_forgets 15 = .ok (.return_, 1) := dk_177 (dk_at dksX14_forgets_0 15 rfl rfl)
abbrev cX14_told : ByteArray := prog_48_method_4_code
def yX14_told : MethodName := ⟨RX14, "told", "()I"⟩
theorem dX14_told_0 : decode cX14_told 0 = .ok (.aload_n 0, 1) := by decide +kernel
theorem dX14_told_1 : decode cX14_told 1 = .ok (.getfield 9, 3) := by decide +kernel
theorem dX14_told_4 : decode cX14_told 4 = .ok (.ireturn, 1) := by decide +kernel
abbrev cX14_isHeld : ByteArray := prog_48_method_8_code
def yX14_isHeld : MethodName := ⟨RX14, "isHeld", "()Z"⟩
theorem dX14_isHeld_0 : decode cX14_isHeld 0 = .ok (.iconst 0, 1) := by decide +kernel
theorem dX14_isHeld_1 : decode cX14_isHeld 1 = .ok (.ireturn, 1) := by decide +kernel
abbrev cX14_takes : ByteArray := prog_48_method_10_code
def yX14_takes : MethodName := ⟨RX14, "takes", "(LRankEntry$Source;)V"⟩
def dkwX14_takes_2 : List UInt8 := [42, 43, 180, 0, 35, 181, 0, 35, 42, 43, 180, 0, 15, 181, 0, 15, 177]
abbrev dktX14_takes_2 : List UInt8 := dkwX14_takes_2 ++ []
def dkwX14_takes_1 : List UInt8 := [42, 43, 180, 0, 25, 181, 0, 25, 42, 43, 180, 0, 32, 181, 0, 32, 42, 43, 180, 0, 29, 181, 0, 29]
abbrev dktX14_takes_1 : List UInt8 := dkwX14_takes_1 ++ dktX14_takes_2
def dkwX14_takes_0 : List UInt8 := [42, 43, 180, 0, 9, 181, 0, 9, 42, 43, 180, 0, 38, 181, 0, 38, 42, 43, 180, 0, 41, 181, 0, 41]
abbrev dktX14_takes_0 : List UInt8 := dkwX14_takes_0 ++ dktX14_takes_1
theorem dksX14_takes_0 : cX14_takes.data.toList.drop 0 = dktX14_takes_0 := by decide +kernel
theorem dksX14_takes_1 : cX14_takes.data.toList.drop 24 = dktX14_takes_1 := dk_seg dksX14_takes_0 24 rfl rfl
theorem dksX14_takes_2 : cX14_takes.data.toList.drop 48 = dktX14_takes_2 := dk_seg dksX14_takes_1 24 rfl rfl
theorem dX14_takes_0 : decode cX14_takes 0 = .ok (.aload_n 0, 1) := dk_42 (dk_at dksX14_takes_0 0 rfl rfl)
theorem dX14_takes_1 : decode cX14_takes 1 = .ok (.aload_n 1, 1) := dk_43 (dk_at dksX14_takes_0 1 rfl rfl)
theorem dX14_takes_2 : decode cX14_takes 2 = .ok (.getfield 9, 3) := dk_180 0 9 (dk_at dksX14_takes_0 2 rfl rfl)
theorem dX14_takes_5 : decode cX14_takes 5 = .ok (.putfield 9, 3) := dk_181 0 9 (dk_at dksX14_takes_0 5 rfl rfl)
theorem dX14_takes_8 : decode cX14_takes 8 = .ok (.aload_n 0, 1) := dk_42 (dk_at dksX14_takes_0 8 rfl rfl)
theorem dX14_takes_9 : decode cX14_takes 9 = .ok (.aload_n 1, 1) := dk_43 (dk_at dksX14_takes_0 9 rfl rfl)
theorem dX14_takes_10 : decode cX14_takes 10 = .ok (.getfield 38, 3) := dk_180 0 38 (dk_at dksX14_takes_0 10 rfl rfl)
theorem dX14_takes_13 : decode cX14_takes 13 = .ok (.putfield 38, 3) := dk_181 0 38 (dk_at dksX14_takes_0 13 rfl rfl)
theorem dX14_takes_16 : decode cX14_takes 16 = .ok (.aload_n 0, 1) := dk_42 (dk_at dksX14_takes_0 16 rfl rfl)
theorem dX14_takes_17 : decode cX14_takes 17 = .ok (.aload_n 1, 1) := dk_43 (dk_at dksX14_takes_0 17 rfl rfl)
theorem dX14_takes_18 : decode cX14_takes 18 = .ok (.getfield 41, 3) := dk_180 0 41 (dk_at dksX14_takes_0 18 rfl rfl)
theorem dX14_takes_21 : decode cX14_takes 21 = .ok (.putfield 41, 3) := dk_181 0 41 (dk_at dksX14_takes_0 21 rfl rfl)
theorem dX14_takes_24 : decode cX14_takes 24 = .ok (.aload_n 0, 1) := dk_42 (dk_at dksX14_takes_1 0 rfl rfl)
theorem dX14_takes_25 : decode cX14_takes 25 = .ok (.aload_n 1, 1) := dk_43 (dk_at dksX14_takes_1 1 rfl rfl)
theorem dX14_takes_26 : decode cX14_takes 26 = .ok (.getfield 25, 3) := dk_180 0 25 (dk_at dksX14_takes_1 2 rfl rfl)
theorem dX14_takes_29 : decode cX14_takes 29 = .ok (.putfield 25, 3) := dk_181 0 25 (dk_at dksX14_takes_1 5 rfl rfl)
theorem dX14_takes_32 : decode cX14_takes 32 = .ok (.aload_n 0, 1) := dk_42 (dk_at dksX14_takes_1 8 rfl rfl)
theorem dX14_takes_33 : decode cX14_takes 33 = .ok (.aload_n 1, 1) := dk_43 (dk_at dksX14_takes_1 9 rfl rfl)
theorem dX14_takes_34 : decode cX14_takes 34 = .ok (.getfield 32, 3) := dk_180 0 32 (dk_at dksX14_takes_1 10 rfl rfl)
theorem dX14_takes_37 : decode cX14_takes 37 = .ok (.putfield 32, 3) := dk_181 0 32 (dk_at dksX14_takes_1 13 rfl rfl)
theorem dX14_takes_40 : decode cX14_takes 40 = .ok (.aload_n 0, 1) := dk_42 (dk_at dksX14_takes_1 16 rfl rfl)
theorem dX14_takes_41 : decode cX14_takes 41 = .ok (.aload_n 1, 1) := dk_43 (dk_at dksX14_takes_1 17 rfl rfl)
theorem dX14_takes_42 : decode cX14_takes 42 = .ok (.getfield 29, 3) := dk_180 0 29 (dk_at dksX14_takes_1 18 rfl rfl)
theorem dX14_takes_45 : decode cX14_takes 45 = .ok (.putfield 29, 3) := dk_181 0 29 (dk_at dksX14_takes_1 21 rfl rfl)
theorem dX14_takes_48 : decode cX14_takes 48 = .ok (.aload_n 0, 1) := dk_42 (dk_at dksX14_takes_2 0 rfl rfl)
theorem dX14_takes_49 : decode cX14_takes 49 = .ok (.aload_n 1, 1) := dk_43 (dk_at dksX14_takes_2 1 rfl rfl)
theorem dX14_takes_50 : decode cX14_takes 50 = .ok (.getfield 35, 3) := dk_180 0 35 (dk_at dksX14_takes_2 2 rfl rfl)
theorem dX14_takes_53 : decode cX14_takes 53 = .ok (.putfield 35, 3) := dk_181 0 35 (dk_at dksX14_takes_2 5 rfl rfl)
theorem dX14_takes_56 : decode cX14_takes 56 = .ok (.aload_n 0, 1) := dk_42 (dk_at dksX14_takes_2 8 rfl rfl)
theorem dX14_takes_57 : decode cX14_takes 57 = .ok (.aload_n 1, 1) := dk_43 (dk_at dksX14_takes_2 9 rfl rfl)
theorem dX14_takes_58 : decode cX14_takes 58 = .ok (.getfield 15, 3) := dk_180 0 15 (dk_at dksX14_takes_2 10 rfl rfl)
theorem dX14_takes_61 : decode cX14_takes 61 = .ok (.putfield 15, 3) := dk_181 0 15 (dk_at dksX14_takes_2 13 rfl rfl)
theorem dX14_takes_64 : decode cX14_takes 64 = .ok (.return_, 1) := dk_177 (dk_at dksX14_takes_2 16 rfl rfl)
theorem q78 : (Jvm.Cond.initialized "RankEntry$Source") ∈ lw_all := lw_g (lw_at lw_m1 20 rfl) rfl
theorem q217 : (Jvm.Cond.instanceMethod ({ cls := "RankEntry$Source", name := "group", desc := "(I)I" } : Jvm.MethodName)) ∈ lw_all := lw_g (lw_at lw_m1 159 rfl) rfl
theorem q218 : (Jvm.Cond.sameMethod "RankEntry$Source" "RankEntry$Source" "group" "(I)I") ∈ lw_all := lw_g (lw_at lw_m1 160 rfl) rfl
theorem q225 : (Jvm.Cond.code ({ cls := "RankEntry$Source", name := "group", desc := "(I)I" } : Jvm.MethodName) prog_48_method_2_code (2 : Nat) (Option.some Jvm.ClassFile.FieldType.int)) ∈ lw_all := lw_g (lw_at lw_m1 167 rfl) rfl
theorem q292 : (Jvm.Cond.instanceMethod ({ cls := "RankEntry$Source", name := "becomes", desc := "(I)Z" } : Jvm.MethodName)) ∈ lw_all := lw_g (lw_at lw_m1 234 rfl) rfl
theorem q293 : (Jvm.Cond.sameMethod "RankEntry$Source" "RankEntry$Source" "becomes" "(I)Z") ∈ lw_all := lw_g (lw_at lw_m1 235 rfl) rfl
theorem q298 : (Jvm.Cond.code ({ cls := "RankEntry$Source", name := "becomes", desc := "(I)Z" } : Jvm.MethodName) prog_48_method_5_code (2 : Nat) (Option.some Jvm.ClassFile.FieldType.boolean)) ∈ lw_all := lw_g (lw_at lw_m2 0 rfl) rfl
theorem q320 : (Jvm.Cond.instanceMethod ({ cls := "RankEntry$Source", name := "begins", desc := "(I)V" } : Jvm.MethodName)) ∈ lw_all := lw_g (lw_at lw_m2 22 rfl) rfl
theorem q321 : (Jvm.Cond.sameMethod "RankEntry$Source" "RankEntry$Source" "begins" "(I)V") ∈ lw_all := lw_g (lw_at lw_m2 23 rfl) rfl
theorem q326 : (Jvm.Cond.code ({ cls := "RankEntry$Source", name := "begins", desc := "(I)V" } : Jvm.MethodName) prog_48_method_9_code (2 : Nat) (Option.none : Option Jvm.ClassFile.FieldType)) ∈ lw_all := lw_g (lw_at lw_m2 28 rfl) rfl
theorem q463 : (Jvm.Cond.instanceMethod ({ cls := "RankEntry$Source", name := "drops", desc := "()Z" } : Jvm.MethodName)) ∈ lw_all := lw_g (lw_at lw_m2 165 rfl) rfl
theorem q464 : (Jvm.Cond.sameMethod "RankEntry$Source" "RankEntry$Source" "drops" "()Z") ∈ lw_all := lw_g (lw_at lw_m2 166 rfl) rfl
theorem q472 : (Jvm.Cond.declares ({ cls := "RankEntry$Source", name := "drops", desc := "()Z" } : Jvm.MethodName)) ∈ lw_tbl := lw_at lw_m2 174 rfl
theorem q475 : (Jvm.Cond.code ({ cls := "RankEntry$Source", name := "drops", desc := "()Z" } : Jvm.MethodName) prog_48_method_6_code (2 : Nat) (Option.some Jvm.ClassFile.FieldType.boolean)) ∈ lw_all := lw_g (lw_at lw_m2 177 rfl) rfl
theorem q507 : (Jvm.Cond.instanceMethod ({ cls := "RankEntry$Source", name := "ends", desc := "()Z" } : Jvm.MethodName)) ∈ lw_all := lw_g (lw_at lw_m2 209 rfl) rfl
theorem q508 : (Jvm.Cond.sameMethod "RankEntry$Source" "RankEntry$Source" "ends" "()Z") ∈ lw_all := lw_g (lw_at lw_m2 210 rfl) rfl
theorem q516 : (Jvm.Cond.declares ({ cls := "RankEntry$Source", name := "ends", desc := "()Z" } : Jvm.MethodName)) ∈ lw_tbl := lw_at lw_m2 218 rfl
theorem q517 : (Jvm.Cond.code ({ cls := "RankEntry$Source", name := "ends", desc := "()Z" } : Jvm.MethodName) prog_48_method_7_code (1 : Nat) (Option.some Jvm.ClassFile.FieldType.boolean)) ∈ lw_all := lw_g (lw_at lw_m2 219 rfl) rfl
theorem q710 : (Jvm.Cond.instanceMethod ({ cls := "RankEntry$Source", name := "sub", desc := "(I)I" } : Jvm.MethodName)) ∈ lw_all := lw_g (lw_at lw_m3 172 rfl) rfl
theorem q711 : (Jvm.Cond.sameMethod "RankEntry$Source" "RankEntry$Source" "sub" "(I)I") ∈ lw_all := lw_g (lw_at lw_m3 173 rfl) rfl
theorem q718 : (Jvm.Cond.code ({ cls := "RankEntry$Source", name := "sub", desc := "(I)I" } : Jvm.MethodName) prog_48_method_3_code (2 : Nat) (Option.some Jvm.ClassFile.FieldType.int)) ∈ lw_all := lw_g (lw_at lw_m3 180 rfl) rfl
theorem q719 : (Jvm.Cond.methodLink "RankEntry$Source" (21 : Nat) ({ cls := "RankEntry$Source", name := "group", desc := "(I)I" } : Jvm.MethodName)) ∈ lw_all := lw_g (lw_at lw_m3 181 rfl) rfl
theorem q729 : (Jvm.Cond.instanceMethod ({ cls := "RankEntry$Source", name := "<init>", desc := "(I)V" } : Jvm.MethodName)) ∈ lw_all := lw_g (lw_at lw_m3 191 rfl) rfl
theorem q730 : (Jvm.Cond.code ({ cls := "RankEntry$Source", name := "<init>", desc := "(I)V" } : Jvm.MethodName) prog_48_method_1_code (2 : Nat) (Option.none : Option Jvm.ClassFile.FieldType)) ∈ lw_all := lw_g (lw_at lw_m3 192 rfl) rfl
theorem q731 : (Jvm.Cond.methodLink "RankEntry$Source" (3 : Nat) ({ cls := "java/lang/Object", name := "<init>", desc := "()V" } : Jvm.MethodName)) ∈ lw_all := lw_g (lw_at lw_m3 193 rfl) rfl
theorem q732 : (Jvm.Cond.fieldLink "RankEntry$Source" (18 : Nat) "RankEntry$Source" "number" "I") ∈ lw_all := lw_g (lw_at lw_m3 194 rfl) rfl
theorem q735 : (Jvm.Cond.fieldLink "RankEntry$Source" (9 : Nat) "RankEntry$Source" "rank" "I") ∈ lw_all := lw_g (lw_at lw_m3 197 rfl) rfl
theorem q738 : (Jvm.Cond.fieldLink "RankEntry$Source" (38 : Nat) "RankEntry$Source" "vector" "I") ∈ lw_all := lw_g (lw_at lw_m3 200 rfl) rfl
theorem q743 : (Jvm.Cond.fieldLink "RankEntry$Source" (41 : Nat) "RankEntry$Source" "enabled" "Z") ∈ lw_all := lw_g (lw_at lw_m3 205 rfl) rfl
theorem q746 : (Jvm.Cond.fieldLink "RankEntry$Source" (25 : Nat) "RankEntry$Source" "pending" "Z") ∈ lw_all := lw_g (lw_at lw_m3 208 rfl) rfl
theorem q750 : (Jvm.Cond.fieldLink "RankEntry$Source" (32 : Nat) "RankEntry$Source" "active" "Z") ∈ lw_all := lw_g (lw_at lw_m3 212 rfl) rfl
theorem q753 : (Jvm.Cond.fieldLink "RankEntry$Source" (29 : Nat) "RankEntry$Source" "since" "I") ∈ lw_all := lw_g (lw_at lw_m3 215 rfl) rfl
theorem q755 : (Jvm.Cond.fieldLink "RankEntry$Source" (35 : Nat) "RankEntry$Source" "began" "I") ∈ lw_all := lw_g (lw_at lw_m3 217 rfl) rfl
theorem q757 : (Jvm.Cond.fieldLink "RankEntry$Source" (15 : Nat) "RankEntry$Source" "waited" "I") ∈ lw_all := lw_g (lw_at lw_m3 219 rfl) rfl
theorem q760 : (Jvm.Cond.soleField "RankEntry$Source" "number") ∈ lw_all := lw_g (lw_at lw_m3 222 rfl) rfl
theorem q762 : (Jvm.Cond.soleField "RankEntry$Source" "rank") ∈ lw_all := lw_g (lw_at lw_m3 224 rfl) rfl
theorem q764 : (Jvm.Cond.soleField "RankEntry$Source" "vector") ∈ lw_all := lw_g (lw_at lw_m3 226 rfl) rfl
theorem q766 : (Jvm.Cond.soleField "RankEntry$Source" "enabled") ∈ lw_all := lw_g (lw_at lw_m3 228 rfl) rfl
theorem q768 : (Jvm.Cond.soleField "RankEntry$Source" "pending") ∈ lw_all := lw_g (lw_at lw_m3 230 rfl) rfl
theorem q770 : (Jvm.Cond.soleField "RankEntry$Source" "active") ∈ lw_all := lw_g (lw_at lw_m3 232 rfl) rfl
theorem q772 : (Jvm.Cond.soleField "RankEntry$Source" "since") ∈ lw_all := lw_g (lw_at lw_m3 234 rfl) rfl
theorem q774 : (Jvm.Cond.soleField "RankEntry$Source" "began") ∈ lw_all := lw_g (lw_at lw_m3 236 rfl) rfl
theorem q776 : (Jvm.Cond.soleField "RankEntry$Source" "waited") ∈ lw_all := lw_g (lw_at lw_m3 238 rfl) rfl
theorem q1174 : (Jvm.Cond.instanceMethod ({ cls := "RankEntry$Source", name := "forgets", desc := "()V" } : Jvm.MethodName)) ∈ lw_all := lw_g (lw_at lw_m5 156 rfl) rfl
theorem q1175 : (Jvm.Cond.sameMethod "RankEntry$Source" "RankEntry$Source" "forgets" "()V") ∈ lw_all := lw_g (lw_at lw_m5 157 rfl) rfl
theorem q1183 : (Jvm.Cond.declares ({ cls := "RankEntry$Source", name := "forgets", desc := "()V" } : Jvm.MethodName)) ∈ lw_tbl := lw_at lw_m5 165 rfl
theorem q1184 : (Jvm.Cond.code ({ cls := "RankEntry$Source", name := "forgets", desc := "()V" } : Jvm.MethodName) prog_48_method_11_code (1 : Nat) (Option.none : Option Jvm.ClassFile.FieldType)) ∈ lw_all := lw_g (lw_at lw_m5 166 rfl) rfl
theorem q1191 : (Jvm.Cond.instanceMethod ({ cls := "RankEntry$Source", name := "told", desc := "()I" } : Jvm.MethodName)) ∈ lw_all := lw_g (lw_at lw_m5 173 rfl) rfl
theorem q1192 : (Jvm.Cond.sameMethod "RankEntry$Source" "RankEntry$Source" "told" "()I") ∈ lw_all := lw_g (lw_at lw_m5 174 rfl) rfl
theorem q1199 : (Jvm.Cond.code ({ cls := "RankEntry$Source", name := "told", desc := "()I" } : Jvm.MethodName) prog_48_method_4_code (1 : Nat) (Option.some Jvm.ClassFile.FieldType.int)) ∈ lw_all := lw_g (lw_at lw_m5 181 rfl) rfl
theorem q1201 : (Jvm.Cond.instanceMethod ({ cls := "RankEntry$Source", name := "isHeld", desc := "()Z" } : Jvm.MethodName)) ∈ lw_all := lw_g (lw_at lw_m5 183 rfl) rfl
theorem q1202 : (Jvm.Cond.sameMethod "RankEntry$Source" "RankEntry$Source" "isHeld" "()Z") ∈ lw_all := lw_g (lw_at lw_m5 184 rfl) rfl
theorem q1209 : (Jvm.Cond.code ({ cls := "RankEntry$Source", name := "isHeld", desc := "()Z" } : Jvm.MethodName) prog_48_method_8_code (1 : Nat) (Option.some Jvm.ClassFile.FieldType.boolean)) ∈ lw_all := lw_g (lw_at lw_m5 191 rfl) rfl
theorem q1250 : (Jvm.Cond.instanceMethod ({ cls := "RankEntry$Source", name := "takes", desc := "(LRankEntry$Source;)V" } : Jvm.MethodName)) ∈ lw_all := lw_g (lw_at lw_m5 232 rfl) rfl
theorem q1251 : (Jvm.Cond.sameMethod "RankEntry$Source" "RankEntry$Source" "takes" "(LRankEntry$Source;)V") ∈ lw_all := lw_g (lw_at lw_m5 233 rfl) rfl
theorem q1259 : (Jvm.Cond.declares ({ cls := "RankEntry$Source", name := "takes", desc := "(LRankEntry$Source;)V" } : Jvm.MethodName)) ∈ lw_tbl := lw_at lw_m6 1 rfl
theorem q1260 : (Jvm.Cond.code ({ cls := "RankEntry$Source", name := "takes", desc := "(LRankEntry$Source;)V" } : Jvm.MethodName) prog_48_method_10_code (2 : Nat) (Option.none : Option Jvm.ClassFile.FieldType)) ∈ lw_all := lw_g (lw_at lw_m6 2 rfl) rfl
/-! RankEntry$Line -/
set_option maxRecDepth 100000
def RX15 : String := "RankEntry$Line"
def TX15 : u_T := fun k => match k with
  | 0 => ("RankEntry$Source", "number", "I", true)
  | 1 => ("RankEntry$Source", "rank", "I", false)
  | 2 => ("RankEntry$Source", "vector", "I", false)
  | 3 => ("RankEntry$Source", "enabled", "Z", false)
  | 4 => ("RankEntry$Source", "pending", "Z", false)
  | 5 => ("RankEntry$Source", "active", "Z", false)
  | 6 => ("RankEntry$Source", "since", "I", false)
  | 7 => ("RankEntry$Source", "began", "I", false)
  | _ => ("RankEntry$Source", "waited", "I", false)
def tyX15 : Nat → FieldType := fun k => match k with
  | 0 => .int
  | 1 => .int
  | 2 => .int
  | 3 => .boolean
  | 4 => .boolean
  | 5 => .boolean
  | 6 => .int
  | 7 => .int
  | _ => .int
abbrev wsX150 : List Cond := u_ws RX15 TX15 9
theorem nmX15 : ∀ a, a < 9 → ∀ b, b < 9 → a ≠ b → (TX15 a).2.1 ≠ (TX15 b).2.1 := by decide +kernel
theorem tyX15_ok : ∀ k, k < 9 → parseFieldDescriptor (TX15 k).2.2.1 = some (tyX15 k) := by decide +kernel
abbrev cX15_init : ByteArray := prog_14_method_1_code
def yX15_init : MethodName := ⟨RX15, "<init>", "(I)V"⟩
def dkwX15_init_0 : List UInt8 := [42, 27, 183, 0, 1, 177]
abbrev dktX15_init_0 : List UInt8 := dkwX15_init_0 ++ []
theorem dksX15_init_0 : cX15_init.data.toList.drop 0 = dktX15_init_0 := by decide +kernel
theorem dX15_init_0 : decode cX15_init 0 = .ok (.aload_n 0, 1) := dk_42 (dk_at dksX15_init_0 0 rfl rfl)
theorem dX15_init_1 : decode cX15_init 1 = .ok (.iload_n 1, 1) := dk_27 (dk_at dksX15_init_0 1 rfl rfl)
theorem dX15_init_2 : decode cX15_init 2 = .ok (.invokespecial 1, 3) := dk_183 0 1 (dk_at dksX15_init_0 2 rfl rfl)
theorem dX15_init_5 : decode cX15_init 5 = .ok (.return_, 1) := dk_177 (dk_at dksX15_init_0 5 rfl rfl)
theorem q79 : (Jvm.Cond.initialized "RankEntry$Line") ∈ lw_all := lw_g (lw_at lw_m1 21 rfl) rfl
theorem q224 : (Jvm.Cond.selects "RankEntry$Line" ({ cls := "RankEntry$Source", name := "group", desc := "(I)I" } : Jvm.MethodName) ({ cls := "RankEntry$Source", name := "group", desc := "(I)I" } : Jvm.MethodName)) ∈ lw_all := lw_g (lw_at lw_m1 166 rfl) rfl
theorem q297 : (Jvm.Cond.selects "RankEntry$Line" ({ cls := "RankEntry$Source", name := "becomes", desc := "(I)Z" } : Jvm.MethodName) ({ cls := "RankEntry$Source", name := "becomes", desc := "(I)Z" } : Jvm.MethodName)) ∈ lw_all := lw_g (lw_at lw_m1 239 rfl) rfl
theorem q325 : (Jvm.Cond.selects "RankEntry$Line" ({ cls := "RankEntry$Source", name := "begins", desc := "(I)V" } : Jvm.MethodName) ({ cls := "RankEntry$Source", name := "begins", desc := "(I)V" } : Jvm.MethodName)) ∈ lw_all := lw_g (lw_at lw_m2 27 rfl) rfl
theorem q471 : (Jvm.Cond.sameMethod "RankEntry$Line" "RankEntry$Source" "drops" "()Z") ∈ lw_all := lw_g (lw_at lw_m2 173 rfl) rfl
theorem q474 : (Jvm.Cond.superclass "RankEntry$Line" "RankEntry$Source") ∈ lw_all := lw_g (lw_at lw_m2 176 rfl) rfl
theorem q476 : (Jvm.Cond.selects "RankEntry$Line" ({ cls := "RankEntry$Source", name := "drops", desc := "()Z" } : Jvm.MethodName) ({ cls := "RankEntry$Source", name := "drops", desc := "()Z" } : Jvm.MethodName)) ∈ lw_all := lw_g (lw_at lw_m2 178 rfl) rfl
theorem q515 : (Jvm.Cond.sameMethod "RankEntry$Line" "RankEntry$Source" "ends" "()Z") ∈ lw_all := lw_g (lw_at lw_m2 217 rfl) rfl
theorem q518 : (Jvm.Cond.selects "RankEntry$Line" ({ cls := "RankEntry$Source", name := "ends", desc := "()Z" } : Jvm.MethodName) ({ cls := "RankEntry$Source", name := "ends", desc := "()Z" } : Jvm.MethodName)) ∈ lw_all := lw_g (lw_at lw_m2 220 rfl) rfl
theorem q717 : (Jvm.Cond.selects "RankEntry$Line" ({ cls := "RankEntry$Source", name := "sub", desc := "(I)I" } : Jvm.MethodName) ({ cls := "RankEntry$Source", name := "sub", desc := "(I)I" } : Jvm.MethodName)) ∈ lw_all := lw_g (lw_at lw_m3 179 rfl) rfl
theorem q724 : (Jvm.Cond.instantiable "RankEntry$Line" (9 : Nat)) ∈ lw_all := lw_g (lw_at lw_m3 186 rfl) rfl
theorem q726 : (Jvm.Cond.instanceMethod ({ cls := "RankEntry$Line", name := "<init>", desc := "(I)V" } : Jvm.MethodName)) ∈ lw_all := lw_g (lw_at lw_m3 188 rfl) rfl
theorem q727 : (Jvm.Cond.code ({ cls := "RankEntry$Line", name := "<init>", desc := "(I)V" } : Jvm.MethodName) prog_14_method_1_code (2 : Nat) (Option.none : Option Jvm.ClassFile.FieldType)) ∈ lw_all := lw_g (lw_at lw_m3 189 rfl) rfl
theorem q728 : (Jvm.Cond.methodLink "RankEntry$Line" (1 : Nat) ({ cls := "RankEntry$Source", name := "<init>", desc := "(I)V" } : Jvm.MethodName)) ∈ lw_all := lw_g (lw_at lw_m3 190 rfl) rfl
theorem q759 : (Jvm.Cond.laysFinal "RankEntry$Line" "RankEntry$Source" "number" "I") ∈ lw_all := lw_g (lw_at lw_m3 221 rfl) rfl
theorem q761 : (Jvm.Cond.lays "RankEntry$Line" "RankEntry$Source" "rank" "I") ∈ lw_all := lw_g (lw_at lw_m3 223 rfl) rfl
theorem q763 : (Jvm.Cond.lays "RankEntry$Line" "RankEntry$Source" "vector" "I") ∈ lw_all := lw_g (lw_at lw_m3 225 rfl) rfl
theorem q765 : (Jvm.Cond.lays "RankEntry$Line" "RankEntry$Source" "enabled" "Z") ∈ lw_all := lw_g (lw_at lw_m3 227 rfl) rfl
theorem q767 : (Jvm.Cond.lays "RankEntry$Line" "RankEntry$Source" "pending" "Z") ∈ lw_all := lw_g (lw_at lw_m3 229 rfl) rfl
theorem q769 : (Jvm.Cond.lays "RankEntry$Line" "RankEntry$Source" "active" "Z") ∈ lw_all := lw_g (lw_at lw_m3 231 rfl) rfl
theorem q771 : (Jvm.Cond.lays "RankEntry$Line" "RankEntry$Source" "since" "I") ∈ lw_all := lw_g (lw_at lw_m3 233 rfl) rfl
theorem q773 : (Jvm.Cond.lays "RankEntry$Line" "RankEntry$Source" "began" "I") ∈ lw_all := lw_g (lw_at lw_m3 235 rfl) rfl
theorem q775 : (Jvm.Cond.lays "RankEntry$Line" "RankEntry$Source" "waited" "I") ∈ lw_all := lw_g (lw_at lw_m3 237 rfl) rfl
theorem q1182 : (Jvm.Cond.sameMethod "RankEntry$Line" "RankEntry$Source" "forgets" "()V") ∈ lw_all := lw_g (lw_at lw_m5 164 rfl) rfl
theorem q1185 : (Jvm.Cond.selects "RankEntry$Line" ({ cls := "RankEntry$Source", name := "forgets", desc := "()V" } : Jvm.MethodName) ({ cls := "RankEntry$Source", name := "forgets", desc := "()V" } : Jvm.MethodName)) ∈ lw_all := lw_g (lw_at lw_m5 167 rfl) rfl
theorem q1198 : (Jvm.Cond.selects "RankEntry$Line" ({ cls := "RankEntry$Source", name := "told", desc := "()I" } : Jvm.MethodName) ({ cls := "RankEntry$Source", name := "told", desc := "()I" } : Jvm.MethodName)) ∈ lw_all := lw_g (lw_at lw_m5 180 rfl) rfl
theorem q1208 : (Jvm.Cond.selects "RankEntry$Line" ({ cls := "RankEntry$Source", name := "isHeld", desc := "()Z" } : Jvm.MethodName) ({ cls := "RankEntry$Source", name := "isHeld", desc := "()Z" } : Jvm.MethodName)) ∈ lw_all := lw_g (lw_at lw_m5 190 rfl) rfl
theorem q1258 : (Jvm.Cond.sameMethod "RankEntry$Line" "RankEntry$Source" "takes" "(LRankEntry$Source;)V") ∈ lw_all := lw_g (lw_at lw_m6 0 rfl) rfl
theorem q1262 : (Jvm.Cond.selects "RankEntry$Line" ({ cls := "RankEntry$Source", name := "takes", desc := "(LRankEntry$Source;)V" } : Jvm.MethodName) ({ cls := "RankEntry$Source", name := "takes", desc := "(LRankEntry$Source;)V" } : Jvm.MethodName)) ∈ lw_all := lw_g (lw_at lw_m6 4 rfl) rfl
theorem q2201 : (Jvm.Cond.castable "RankEntry$Line" "java/lang/Object") ∈ lw_tbl := lw_at lw_m9 223 rfl
theorem q2241 : (Jvm.Cond.castable "RankEntry$Line" "RankEntry$Source") ∈ lw_tbl := lw_at lw_m10 23 rfl
theorem in_X15 : ∀ w ∈ wsX150, w ∈ lw_all := lw_in wsX150 [759, 761, 763, 765, 767, 769, 771, 773, 775] (by decide +kernel) (by decide +kernel)
/-! RankEntry$Level -/
set_option maxRecDepth 100000
def RX16 : String := "RankEntry$Level"
def TX16 : u_T := fun k => match k with
  | 0 => ("RankEntry$Source", "number", "I", true)
  | 1 => ("RankEntry$Source", "rank", "I", false)
  | 2 => ("RankEntry$Source", "vector", "I", false)
  | 3 => ("RankEntry$Source", "enabled", "Z", false)
  | 4 => ("RankEntry$Source", "pending", "Z", false)
  | 5 => ("RankEntry$Source", "active", "Z", false)
  | 6 => ("RankEntry$Source", "since", "I", false)
  | 7 => ("RankEntry$Source", "began", "I", false)
  | 8 => ("RankEntry$Source", "waited", "I", false)
  | _ => ("RankEntry$Level", "held", "Z", false)
def tyX16 : Nat → FieldType := fun k => match k with
  | 0 => .int
  | 1 => .int
  | 2 => .int
  | 3 => .boolean
  | 4 => .boolean
  | 5 => .boolean
  | 6 => .int
  | 7 => .int
  | 8 => .int
  | _ => .boolean
abbrev wsX160 : List Cond := u_ws RX16 TX16 10
theorem nmX16 : ∀ a, a < 10 → ∀ b, b < 10 → a ≠ b → (TX16 a).2.1 ≠ (TX16 b).2.1 := by decide +kernel
theorem tyX16_ok : ∀ k, k < 10 → parseFieldDescriptor (TX16 k).2.2.1 = some (tyX16 k) := by decide +kernel
abbrev cX16_drops : ByteArray := prog_13_method_4_code
def yX16_drops : MethodName := ⟨RX16, "drops", "()Z"⟩
def dkwX16_drops_0 : List UInt8 := [42, 180, 0, 7, 154, 0, 14, 42, 183, 0, 13, 153, 0, 7, 4, 167, 0, 4, 3, 172]
abbrev dktX16_drops_0 : List UInt8 := dkwX16_drops_0 ++ []
theorem dksX16_drops_0 : cX16_drops.data.toList.drop 0 = dktX16_drops_0 := by decide +kernel
theorem dX16_drops_0 : decode cX16_drops 0 = .ok (.aload_n 0, 1) := dk_42 (dk_at dksX16_drops_0 0 rfl rfl)
theorem dX16_drops_1 : decode cX16_drops 1 = .ok (.getfield 7, 3) := dk_180 0 7 (dk_at dksX16_drops_0 1 rfl rfl)
theorem dX16_drops_4 : decode cX16_drops 4 = .ok (.ifCond .ne 14, 3) := dk_154 0 14 (dk_at dksX16_drops_0 4 rfl rfl)
theorem dX16_drops_7 : decode cX16_drops 7 = .ok (.aload_n 0, 1) := dk_42 (dk_at dksX16_drops_0 7 rfl rfl)
theorem dX16_drops_8 : decode cX16_drops 8 = .ok (.invokespecial 13, 3) := dk_183 0 13 (dk_at dksX16_drops_0 8 rfl rfl)
theorem dX16_drops_11 : decode cX16_drops 11 = .ok (.ifCond .eq 7, 3) := dk_153 0 7 (dk_at dksX16_drops_0 11 rfl rfl)
theorem dX16_drops_14 : decode cX16_drops 14 = .ok (.iconst 1, 1) := dk_4 (dk_at dksX16_drops_0 14 rfl rfl)
theorem dX16_drops_15 : decode cX16_drops 15 = .ok (.goto 4, 3) := dk_167 0 4 (dk_at dksX16_drops_0 15 rfl rfl)
theorem dX16_drops_18 : decode cX16_drops 18 = .ok (.iconst 0, 1) := dk_3 (dk_at dksX16_drops_0 18 rfl rfl)
theorem dX16_drops_19 : decode cX16_drops 19 = .ok (.ireturn, 1) := dk_172 (dk_at dksX16_drops_0 19 rfl rfl)
abbrev cX16_ends : ByteArray := prog_13_method_5_code
def yX16_ends : MethodName := ⟨RX16, "ends", "()Z"⟩
def dkwX16_ends_0 : List UInt8 := [42, 183, 0, 17, 154, 0, 10, 42, 180, 0, 7, 153, 0, 7, 4, 167, 0, 4, 3, 172]
abbrev dktX16_ends_0 : List UInt8 := dkwX16_ends_0 ++ []
theorem dksX16_ends_0 : cX16_ends.data.toList.drop 0 = dktX16_ends_0 := by decide +kernel
theorem dX16_ends_0 : decode cX16_ends 0 = .ok (.aload_n 0, 1) := dk_42 (dk_at dksX16_ends_0 0 rfl rfl)
theorem dX16_ends_1 : decode cX16_ends 1 = .ok (.invokespecial 17, 3) := dk_183 0 17 (dk_at dksX16_ends_0 1 rfl rfl)
theorem dX16_ends_4 : decode cX16_ends 4 = .ok (.ifCond .ne 10, 3) := dk_154 0 10 (dk_at dksX16_ends_0 4 rfl rfl)
theorem dX16_ends_7 : decode cX16_ends 7 = .ok (.aload_n 0, 1) := dk_42 (dk_at dksX16_ends_0 7 rfl rfl)
theorem dX16_ends_8 : decode cX16_ends 8 = .ok (.getfield 7, 3) := dk_180 0 7 (dk_at dksX16_ends_0 8 rfl rfl)
theorem dX16_ends_11 : decode cX16_ends 11 = .ok (.ifCond .eq 7, 3) := dk_153 0 7 (dk_at dksX16_ends_0 11 rfl rfl)
theorem dX16_ends_14 : decode cX16_ends 14 = .ok (.iconst 1, 1) := dk_4 (dk_at dksX16_ends_0 14 rfl rfl)
theorem dX16_ends_15 : decode cX16_ends 15 = .ok (.goto 4, 3) := dk_167 0 4 (dk_at dksX16_ends_0 15 rfl rfl)
theorem dX16_ends_18 : decode cX16_ends 18 = .ok (.iconst 0, 1) := dk_3 (dk_at dksX16_ends_0 18 rfl rfl)
theorem dX16_ends_19 : decode cX16_ends 19 = .ok (.ireturn, 1) := dk_172 (dk_at dksX16_ends_0 19 rfl rfl)
abbrev cX16_init : ByteArray := prog_13_method_1_code
def yX16_init : MethodName := ⟨RX16, "<init>", "(I)V"⟩
def dkwX16_init_0 : List UInt8 := [42, 27, 183, 0, 1, 177]
abbrev dktX16_init_0 : List UInt8 := dkwX16_init_0 ++ []
theorem dksX16_init_0 : cX16_init.data.toList.drop 0 = dktX16_init_0 := by decide +kernel
theorem dX16_init_0 : decode cX16_init 0 = .ok (.aload_n 0, 1) := dk_42 (dk_at dksX16_init_0 0 rfl rfl)
theorem dX16_init_1 : decode cX16_init 1 = .ok (.iload_n 1, 1) := dk_27 (dk_at dksX16_init_0 1 rfl rfl)
theorem dX16_init_2 : decode cX16_init 2 = .ok (.invokespecial 1, 3) := dk_183 0 1 (dk_at dksX16_init_0 2 rfl rfl)
theorem dX16_init_5 : decode cX16_init 5 = .ok (.return_, 1) := dk_177 (dk_at dksX16_init_0 5 rfl rfl)
abbrev cX16_holds : ByteArray := prog_13_method_2_code
def yX16_holds : MethodName := ⟨RX16, "holds", "(Z)Z"⟩
def dkwX16_holds_0 : List UInt8 := [42, 180, 0, 7, 27, 160, 0, 5, 3, 172, 42, 27, 181, 0, 7, 4, 172]
abbrev dktX16_holds_0 : List UInt8 := dkwX16_holds_0 ++ []
theorem dksX16_holds_0 : cX16_holds.data.toList.drop 0 = dktX16_holds_0 := by decide +kernel
theorem dX16_holds_0 : decode cX16_holds 0 = .ok (.aload_n 0, 1) := dk_42 (dk_at dksX16_holds_0 0 rfl rfl)
theorem dX16_holds_1 : decode cX16_holds 1 = .ok (.getfield 7, 3) := dk_180 0 7 (dk_at dksX16_holds_0 1 rfl rfl)
theorem dX16_holds_4 : decode cX16_holds 4 = .ok (.iload_n 1, 1) := dk_27 (dk_at dksX16_holds_0 4 rfl rfl)
theorem dX16_holds_5 : decode cX16_holds 5 = .ok (.if_icmp .ne 5, 3) := dk_160 0 5 (dk_at dksX16_holds_0 5 rfl rfl)
theorem dX16_holds_8 : decode cX16_holds 8 = .ok (.iconst 0, 1) := dk_3 (dk_at dksX16_holds_0 8 rfl rfl)
theorem dX16_holds_9 : decode cX16_holds 9 = .ok (.ireturn, 1) := dk_172 (dk_at dksX16_holds_0 9 rfl rfl)
theorem dX16_holds_10 : decode cX16_holds 10 = .ok (.aload_n 0, 1) := dk_42 (dk_at dksX16_holds_0 10 rfl rfl)
theorem dX16_holds_11 : decode cX16_holds 11 = .ok (.iload_n 1, 1) := dk_27 (dk_at dksX16_holds_0 11 rfl rfl)
theorem dX16_holds_12 : decode cX16_holds 12 = .ok (.putfield 7, 3) := dk_181 0 7 (dk_at dksX16_holds_0 12 rfl rfl)
theorem dX16_holds_15 : decode cX16_holds 15 = .ok (.iconst 1, 1) := dk_4 (dk_at dksX16_holds_0 15 rfl rfl)
theorem dX16_holds_16 : decode cX16_holds 16 = .ok (.ireturn, 1) := dk_172 (dk_at dksX16_holds_0 16 rfl rfl)
abbrev cX16_forgets : ByteArray := prog_13_method_7_code
def yX16_forgets : MethodName := ⟨RX16, "forgets", "()V"⟩
def dkwX16_forgets_0 : List UInt8 := [42, 183, 0, 29, 42, 3, 181, 0, 7, 177]
abbrev dktX16_forgets_0 : List UInt8 := dkwX16_forgets_0 ++ []
theorem dksX16_forgets_0 : cX16_forgets.data.toList.drop 0 = dktX16_forgets_0 := by decide +kernel
theorem dX16_forgets_0 : decode cX16_forgets 0 = .ok (.aload_n 0, 1) := dk_42 (dk_at dksX16_forgets_0 0 rfl rfl)
theorem dX16_forgets_1 : decode cX16_forgets 1 = .ok (.invokespecial 29, 3) := dk_183 0 29 (dk_at dksX16_forgets_0 1 rfl rfl)
theorem dX16_forgets_4 : decode cX16_forgets 4 = .ok (.aload_n 0, 1) := dk_42 (dk_at dksX16_forgets_0 4 rfl rfl)
theorem dX16_forgets_5 : decode cX16_forgets 5 = .ok (.iconst 0, 1) := dk_3 (dk_at dksX16_forgets_0 5 rfl rfl)
theorem dX16_forgets_6 : decode cX16_forgets 6 = .ok (.putfield 7, 3) := dk_181 0 7 (dk_at dksX16_forgets_0 6 rfl rfl)
theorem dX16_forgets_9 : decode cX16_forgets 9 = .ok (.return_, 1) := dk_177 (dk_at dksX16_forgets_0 9 rfl rfl)
abbrev cX16_isHeld : ByteArray := prog_13_method_3_code
def yX16_isHeld : MethodName := ⟨RX16, "isHeld", "()Z"⟩
theorem dX16_isHeld_0 : decode cX16_isHeld 0 = .ok (.aload_n 0, 1) := by decide +kernel
theorem dX16_isHeld_1 : decode cX16_isHeld 1 = .ok (.getfield 7, 3) := by decide +kernel
theorem dX16_isHeld_4 : decode cX16_isHeld 4 = .ok (.ireturn, 1) := by decide +kernel
abbrev cX16_takes : ByteArray := prog_13_method_6_code
def yX16_takes : MethodName := ⟨RX16, "takes", "(LRankEntry$Source;)V"⟩
def dkwX16_takes_0 : List UInt8 := [42, 43, 183, 0, 20, 42, 43, 182, 0, 24, 181, 0, 7, 177]
abbrev dktX16_takes_0 : List UInt8 := dkwX16_takes_0 ++ []
theorem dksX16_takes_0 : cX16_takes.data.toList.drop 0 = dktX16_takes_0 := by decide +kernel
theorem dX16_takes_0 : decode cX16_takes 0 = .ok (.aload_n 0, 1) := dk_42 (dk_at dksX16_takes_0 0 rfl rfl)
theorem dX16_takes_1 : decode cX16_takes 1 = .ok (.aload_n 1, 1) := dk_43 (dk_at dksX16_takes_0 1 rfl rfl)
theorem dX16_takes_2 : decode cX16_takes 2 = .ok (.invokespecial 20, 3) := dk_183 0 20 (dk_at dksX16_takes_0 2 rfl rfl)
theorem dX16_takes_5 : decode cX16_takes 5 = .ok (.aload_n 0, 1) := dk_42 (dk_at dksX16_takes_0 5 rfl rfl)
theorem dX16_takes_6 : decode cX16_takes 6 = .ok (.aload_n 1, 1) := dk_43 (dk_at dksX16_takes_0 6 rfl rfl)
theorem dX16_takes_7 : decode cX16_takes 7 = .ok (.invokevirtual 24, 3) := dk_182 0 24 (dk_at dksX16_takes_0 7 rfl rfl)
theorem dX16_takes_10 : decode cX16_takes 10 = .ok (.putfield 7, 3) := dk_181 0 7 (dk_at dksX16_takes_0 10 rfl rfl)
theorem dX16_takes_13 : decode cX16_takes 13 = .ok (.return_, 1) := dk_177 (dk_at dksX16_takes_0 13 rfl rfl)
theorem q80 : (Jvm.Cond.initialized "RankEntry$Level") ∈ lw_all := lw_g (lw_at lw_m1 22 rfl) rfl
theorem q223 : (Jvm.Cond.selects "RankEntry$Level" ({ cls := "RankEntry$Source", name := "group", desc := "(I)I" } : Jvm.MethodName) ({ cls := "RankEntry$Source", name := "group", desc := "(I)I" } : Jvm.MethodName)) ∈ lw_all := lw_g (lw_at lw_m1 165 rfl) rfl
theorem q296 : (Jvm.Cond.selects "RankEntry$Level" ({ cls := "RankEntry$Source", name := "becomes", desc := "(I)Z" } : Jvm.MethodName) ({ cls := "RankEntry$Source", name := "becomes", desc := "(I)Z" } : Jvm.MethodName)) ∈ lw_all := lw_g (lw_at lw_m1 238 rfl) rfl
theorem q324 : (Jvm.Cond.selects "RankEntry$Level" ({ cls := "RankEntry$Source", name := "begins", desc := "(I)V" } : Jvm.MethodName) ({ cls := "RankEntry$Source", name := "begins", desc := "(I)V" } : Jvm.MethodName)) ∈ lw_all := lw_g (lw_at lw_m2 26 rfl) rfl
theorem q467 : (Jvm.Cond.selects "RankEntry$Level" ({ cls := "RankEntry$Source", name := "drops", desc := "()Z" } : Jvm.MethodName) ({ cls := "RankEntry$Level", name := "drops", desc := "()Z" } : Jvm.MethodName)) ∈ lw_all := lw_g (lw_at lw_m2 169 rfl) rfl
theorem q468 : (Jvm.Cond.instanceMethod ({ cls := "RankEntry$Level", name := "drops", desc := "()Z" } : Jvm.MethodName)) ∈ lw_all := lw_g (lw_at lw_m2 170 rfl) rfl
theorem q469 : (Jvm.Cond.code ({ cls := "RankEntry$Level", name := "drops", desc := "()Z" } : Jvm.MethodName) prog_13_method_4_code (1 : Nat) (Option.some Jvm.ClassFile.FieldType.boolean)) ∈ lw_all := lw_g (lw_at lw_m2 171 rfl) rfl
theorem q470 : (Jvm.Cond.methodLink "RankEntry$Level" (13 : Nat) ({ cls := "RankEntry$Line", name := "drops", desc := "()Z" } : Jvm.MethodName)) ∈ lw_all := lw_g (lw_at lw_m2 172 rfl) rfl
theorem q473 : (Jvm.Cond.superclass "RankEntry$Level" "RankEntry$Line") ∈ lw_all := lw_g (lw_at lw_m2 175 rfl) rfl
theorem q511 : (Jvm.Cond.selects "RankEntry$Level" ({ cls := "RankEntry$Source", name := "ends", desc := "()Z" } : Jvm.MethodName) ({ cls := "RankEntry$Level", name := "ends", desc := "()Z" } : Jvm.MethodName)) ∈ lw_all := lw_g (lw_at lw_m2 213 rfl) rfl
theorem q512 : (Jvm.Cond.instanceMethod ({ cls := "RankEntry$Level", name := "ends", desc := "()Z" } : Jvm.MethodName)) ∈ lw_all := lw_g (lw_at lw_m2 214 rfl) rfl
theorem q513 : (Jvm.Cond.code ({ cls := "RankEntry$Level", name := "ends", desc := "()Z" } : Jvm.MethodName) prog_13_method_5_code (1 : Nat) (Option.some Jvm.ClassFile.FieldType.boolean)) ∈ lw_all := lw_g (lw_at lw_m2 215 rfl) rfl
theorem q514 : (Jvm.Cond.methodLink "RankEntry$Level" (17 : Nat) ({ cls := "RankEntry$Line", name := "ends", desc := "()Z" } : Jvm.MethodName)) ∈ lw_all := lw_g (lw_at lw_m2 216 rfl) rfl
theorem q716 : (Jvm.Cond.selects "RankEntry$Level" ({ cls := "RankEntry$Source", name := "sub", desc := "(I)I" } : Jvm.MethodName) ({ cls := "RankEntry$Source", name := "sub", desc := "(I)I" } : Jvm.MethodName)) ∈ lw_all := lw_g (lw_at lw_m3 178 rfl) rfl
theorem q778 : (Jvm.Cond.instantiable "RankEntry$Level" (10 : Nat)) ∈ lw_all := lw_g (lw_at lw_m4 0 rfl) rfl
theorem q780 : (Jvm.Cond.instanceMethod ({ cls := "RankEntry$Level", name := "<init>", desc := "(I)V" } : Jvm.MethodName)) ∈ lw_all := lw_g (lw_at lw_m4 2 rfl) rfl
theorem q781 : (Jvm.Cond.code ({ cls := "RankEntry$Level", name := "<init>", desc := "(I)V" } : Jvm.MethodName) prog_13_method_1_code (2 : Nat) (Option.none : Option Jvm.ClassFile.FieldType)) ∈ lw_all := lw_g (lw_at lw_m4 3 rfl) rfl
theorem q782 : (Jvm.Cond.methodLink "RankEntry$Level" (1 : Nat) ({ cls := "RankEntry$Line", name := "<init>", desc := "(I)V" } : Jvm.MethodName)) ∈ lw_all := lw_g (lw_at lw_m4 4 rfl) rfl
theorem q783 : (Jvm.Cond.fieldLink "RankEntry$Level" (7 : Nat) "RankEntry$Level" "held" "Z") ∈ lw_all := lw_g (lw_at lw_m4 5 rfl) rfl
theorem q784 : (Jvm.Cond.lays "RankEntry$Level" "RankEntry$Level" "held" "Z") ∈ lw_all := lw_g (lw_at lw_m4 6 rfl) rfl
theorem q785 : (Jvm.Cond.soleField "RankEntry$Level" "held") ∈ lw_all := lw_g (lw_at lw_m4 7 rfl) rfl
theorem q786 : (Jvm.Cond.laysFinal "RankEntry$Level" "RankEntry$Source" "number" "I") ∈ lw_all := lw_g (lw_at lw_m4 8 rfl) rfl
theorem q787 : (Jvm.Cond.lays "RankEntry$Level" "RankEntry$Source" "rank" "I") ∈ lw_all := lw_g (lw_at lw_m4 9 rfl) rfl
theorem q788 : (Jvm.Cond.lays "RankEntry$Level" "RankEntry$Source" "vector" "I") ∈ lw_all := lw_g (lw_at lw_m4 10 rfl) rfl
theorem q789 : (Jvm.Cond.lays "RankEntry$Level" "RankEntry$Source" "enabled" "Z") ∈ lw_all := lw_g (lw_at lw_m4 11 rfl) rfl
theorem q790 : (Jvm.Cond.lays "RankEntry$Level" "RankEntry$Source" "pending" "Z") ∈ lw_all := lw_g (lw_at lw_m4 12 rfl) rfl
theorem q791 : (Jvm.Cond.lays "RankEntry$Level" "RankEntry$Source" "active" "Z") ∈ lw_all := lw_g (lw_at lw_m4 13 rfl) rfl
theorem q792 : (Jvm.Cond.lays "RankEntry$Level" "RankEntry$Source" "since" "I") ∈ lw_all := lw_g (lw_at lw_m4 14 rfl) rfl
theorem q793 : (Jvm.Cond.lays "RankEntry$Level" "RankEntry$Source" "began" "I") ∈ lw_all := lw_g (lw_at lw_m4 15 rfl) rfl
theorem q794 : (Jvm.Cond.lays "RankEntry$Level" "RankEntry$Source" "waited" "I") ∈ lw_all := lw_g (lw_at lw_m4 16 rfl) rfl
theorem q1125 : (Jvm.Cond.instanceMethod ({ cls := "RankEntry$Level", name := "holds", desc := "(Z)Z" } : Jvm.MethodName)) ∈ lw_all := lw_g (lw_at lw_m5 107 rfl) rfl
theorem q1126 : (Jvm.Cond.selects "RankEntry$Level" ({ cls := "RankEntry$Level", name := "holds", desc := "(Z)Z" } : Jvm.MethodName) ({ cls := "RankEntry$Level", name := "holds", desc := "(Z)Z" } : Jvm.MethodName)) ∈ lw_all := lw_g (lw_at lw_m5 108 rfl) rfl
theorem q1127 : (Jvm.Cond.code ({ cls := "RankEntry$Level", name := "holds", desc := "(Z)Z" } : Jvm.MethodName) prog_13_method_2_code (2 : Nat) (Option.some Jvm.ClassFile.FieldType.boolean)) ∈ lw_all := lw_g (lw_at lw_m5 109 rfl) rfl
theorem q1178 : (Jvm.Cond.selects "RankEntry$Level" ({ cls := "RankEntry$Source", name := "forgets", desc := "()V" } : Jvm.MethodName) ({ cls := "RankEntry$Level", name := "forgets", desc := "()V" } : Jvm.MethodName)) ∈ lw_all := lw_g (lw_at lw_m5 160 rfl) rfl
theorem q1179 : (Jvm.Cond.instanceMethod ({ cls := "RankEntry$Level", name := "forgets", desc := "()V" } : Jvm.MethodName)) ∈ lw_all := lw_g (lw_at lw_m5 161 rfl) rfl
theorem q1180 : (Jvm.Cond.code ({ cls := "RankEntry$Level", name := "forgets", desc := "()V" } : Jvm.MethodName) prog_13_method_7_code (1 : Nat) (Option.none : Option Jvm.ClassFile.FieldType)) ∈ lw_all := lw_g (lw_at lw_m5 162 rfl) rfl
theorem q1181 : (Jvm.Cond.methodLink "RankEntry$Level" (29 : Nat) ({ cls := "RankEntry$Line", name := "forgets", desc := "()V" } : Jvm.MethodName)) ∈ lw_all := lw_g (lw_at lw_m5 163 rfl) rfl
theorem q1197 : (Jvm.Cond.selects "RankEntry$Level" ({ cls := "RankEntry$Source", name := "told", desc := "()I" } : Jvm.MethodName) ({ cls := "RankEntry$Source", name := "told", desc := "()I" } : Jvm.MethodName)) ∈ lw_all := lw_g (lw_at lw_m5 179 rfl) rfl
theorem q1205 : (Jvm.Cond.selects "RankEntry$Level" ({ cls := "RankEntry$Source", name := "isHeld", desc := "()Z" } : Jvm.MethodName) ({ cls := "RankEntry$Level", name := "isHeld", desc := "()Z" } : Jvm.MethodName)) ∈ lw_all := lw_g (lw_at lw_m5 187 rfl) rfl
theorem q1206 : (Jvm.Cond.instanceMethod ({ cls := "RankEntry$Level", name := "isHeld", desc := "()Z" } : Jvm.MethodName)) ∈ lw_all := lw_g (lw_at lw_m5 188 rfl) rfl
theorem q1207 : (Jvm.Cond.code ({ cls := "RankEntry$Level", name := "isHeld", desc := "()Z" } : Jvm.MethodName) prog_13_method_3_code (1 : Nat) (Option.some Jvm.ClassFile.FieldType.boolean)) ∈ lw_all := lw_g (lw_at lw_m5 189 rfl) rfl
theorem q1254 : (Jvm.Cond.selects "RankEntry$Level" ({ cls := "RankEntry$Source", name := "takes", desc := "(LRankEntry$Source;)V" } : Jvm.MethodName) ({ cls := "RankEntry$Level", name := "takes", desc := "(LRankEntry$Source;)V" } : Jvm.MethodName)) ∈ lw_all := lw_g (lw_at lw_m5 236 rfl) rfl
theorem q1255 : (Jvm.Cond.instanceMethod ({ cls := "RankEntry$Level", name := "takes", desc := "(LRankEntry$Source;)V" } : Jvm.MethodName)) ∈ lw_all := lw_g (lw_at lw_m5 237 rfl) rfl
theorem q1256 : (Jvm.Cond.code ({ cls := "RankEntry$Level", name := "takes", desc := "(LRankEntry$Source;)V" } : Jvm.MethodName) prog_13_method_6_code (2 : Nat) (Option.none : Option Jvm.ClassFile.FieldType)) ∈ lw_all := lw_g (lw_at lw_m5 238 rfl) rfl
theorem q1257 : (Jvm.Cond.methodLink "RankEntry$Level" (20 : Nat) ({ cls := "RankEntry$Line", name := "takes", desc := "(LRankEntry$Source;)V" } : Jvm.MethodName)) ∈ lw_all := lw_g (lw_at lw_m5 239 rfl) rfl
theorem q1261 : (Jvm.Cond.methodLink "RankEntry$Level" (24 : Nat) ({ cls := "RankEntry$Source", name := "isHeld", desc := "()Z" } : Jvm.MethodName)) ∈ lw_all := lw_g (lw_at lw_m6 3 rfl) rfl
theorem q2202 : (Jvm.Cond.castable "RankEntry$Level" "java/lang/Object") ∈ lw_tbl := lw_at lw_m9 224 rfl
theorem q2242 : (Jvm.Cond.castable "RankEntry$Level" "RankEntry$Source") ∈ lw_tbl := lw_at lw_m10 24 rfl
theorem in_X16 : ∀ w ∈ wsX160, w ∈ lw_all := lw_in wsX160 [786, 787, 788, 789, 790, 791, 792, 793, 794, 784] (by decide +kernel) (by decide +kernel)
/-! RankEntry$Inner -/
set_option maxRecDepth 100000
def RX17 : String := "RankEntry$Inner"
def TX17 : u_T := fun k => match k with
  | 0 => ("RankEntry$Source", "number", "I", true)
  | 1 => ("RankEntry$Source", "rank", "I", false)
  | 2 => ("RankEntry$Source", "vector", "I", false)
  | 3 => ("RankEntry$Source", "enabled", "Z", false)
  | 4 => ("RankEntry$Source", "pending", "Z", false)
  | 5 => ("RankEntry$Source", "active", "Z", false)
  | 6 => ("RankEntry$Source", "since", "I", false)
  | 7 => ("RankEntry$Source", "began", "I", false)
  | _ => ("RankEntry$Source", "waited", "I", false)
def tyX17 : Nat → FieldType := fun k => match k with
  | 0 => .int
  | 1 => .int
  | 2 => .int
  | 3 => .boolean
  | 4 => .boolean
  | 5 => .boolean
  | 6 => .int
  | 7 => .int
  | _ => .int
abbrev wsX170 : List Cond := u_ws RX17 TX17 9
theorem nmX17 : ∀ a, a < 9 → ∀ b, b < 9 → a ≠ b → (TX17 a).2.1 ≠ (TX17 b).2.1 := by decide +kernel
theorem tyX17_ok : ∀ k, k < 9 → parseFieldDescriptor (TX17 k).2.2.1 = some (tyX17 k) := by decide +kernel
abbrev cX17_init : ByteArray := prog_12_method_1_code
def yX17_init : MethodName := ⟨RX17, "<init>", "(I)V"⟩
def dkwX17_init_0 : List UInt8 := [42, 27, 183, 0, 1, 177]
abbrev dktX17_init_0 : List UInt8 := dkwX17_init_0 ++ []
theorem dksX17_init_0 : cX17_init.data.toList.drop 0 = dktX17_init_0 := by decide +kernel
theorem dX17_init_0 : decode cX17_init 0 = .ok (.aload_n 0, 1) := dk_42 (dk_at dksX17_init_0 0 rfl rfl)
theorem dX17_init_1 : decode cX17_init 1 = .ok (.iload_n 1, 1) := dk_27 (dk_at dksX17_init_0 1 rfl rfl)
theorem dX17_init_2 : decode cX17_init 2 = .ok (.invokespecial 1, 3) := dk_183 0 1 (dk_at dksX17_init_0 2 rfl rfl)
theorem dX17_init_5 : decode cX17_init 5 = .ok (.return_, 1) := dk_177 (dk_at dksX17_init_0 5 rfl rfl)
theorem q81 : (Jvm.Cond.initialized "RankEntry$Inner") ∈ lw_all := lw_g (lw_at lw_m1 23 rfl) rfl
theorem q222 : (Jvm.Cond.selects "RankEntry$Inner" ({ cls := "RankEntry$Source", name := "group", desc := "(I)I" } : Jvm.MethodName) ({ cls := "RankEntry$Source", name := "group", desc := "(I)I" } : Jvm.MethodName)) ∈ lw_all := lw_g (lw_at lw_m1 164 rfl) rfl
theorem q295 : (Jvm.Cond.selects "RankEntry$Inner" ({ cls := "RankEntry$Source", name := "becomes", desc := "(I)Z" } : Jvm.MethodName) ({ cls := "RankEntry$Source", name := "becomes", desc := "(I)Z" } : Jvm.MethodName)) ∈ lw_all := lw_g (lw_at lw_m1 237 rfl) rfl
theorem q323 : (Jvm.Cond.selects "RankEntry$Inner" ({ cls := "RankEntry$Source", name := "begins", desc := "(I)V" } : Jvm.MethodName) ({ cls := "RankEntry$Source", name := "begins", desc := "(I)V" } : Jvm.MethodName)) ∈ lw_all := lw_g (lw_at lw_m2 25 rfl) rfl
theorem q466 : (Jvm.Cond.selects "RankEntry$Inner" ({ cls := "RankEntry$Source", name := "drops", desc := "()Z" } : Jvm.MethodName) ({ cls := "RankEntry$Source", name := "drops", desc := "()Z" } : Jvm.MethodName)) ∈ lw_all := lw_g (lw_at lw_m2 168 rfl) rfl
theorem q510 : (Jvm.Cond.selects "RankEntry$Inner" ({ cls := "RankEntry$Source", name := "ends", desc := "()Z" } : Jvm.MethodName) ({ cls := "RankEntry$Source", name := "ends", desc := "()Z" } : Jvm.MethodName)) ∈ lw_all := lw_g (lw_at lw_m2 212 rfl) rfl
theorem q715 : (Jvm.Cond.selects "RankEntry$Inner" ({ cls := "RankEntry$Source", name := "sub", desc := "(I)I" } : Jvm.MethodName) ({ cls := "RankEntry$Source", name := "sub", desc := "(I)I" } : Jvm.MethodName)) ∈ lw_all := lw_g (lw_at lw_m3 177 rfl) rfl
theorem q796 : (Jvm.Cond.instantiable "RankEntry$Inner" (9 : Nat)) ∈ lw_all := lw_g (lw_at lw_m4 18 rfl) rfl
theorem q798 : (Jvm.Cond.instanceMethod ({ cls := "RankEntry$Inner", name := "<init>", desc := "(I)V" } : Jvm.MethodName)) ∈ lw_all := lw_g (lw_at lw_m4 20 rfl) rfl
theorem q799 : (Jvm.Cond.code ({ cls := "RankEntry$Inner", name := "<init>", desc := "(I)V" } : Jvm.MethodName) prog_12_method_1_code (2 : Nat) (Option.none : Option Jvm.ClassFile.FieldType)) ∈ lw_all := lw_g (lw_at lw_m4 21 rfl) rfl
theorem q800 : (Jvm.Cond.methodLink "RankEntry$Inner" (1 : Nat) ({ cls := "RankEntry$Source", name := "<init>", desc := "(I)V" } : Jvm.MethodName)) ∈ lw_all := lw_g (lw_at lw_m4 22 rfl) rfl
theorem q801 : (Jvm.Cond.laysFinal "RankEntry$Inner" "RankEntry$Source" "number" "I") ∈ lw_all := lw_g (lw_at lw_m4 23 rfl) rfl
theorem q802 : (Jvm.Cond.lays "RankEntry$Inner" "RankEntry$Source" "rank" "I") ∈ lw_all := lw_g (lw_at lw_m4 24 rfl) rfl
theorem q803 : (Jvm.Cond.lays "RankEntry$Inner" "RankEntry$Source" "vector" "I") ∈ lw_all := lw_g (lw_at lw_m4 25 rfl) rfl
theorem q804 : (Jvm.Cond.lays "RankEntry$Inner" "RankEntry$Source" "enabled" "Z") ∈ lw_all := lw_g (lw_at lw_m4 26 rfl) rfl
theorem q805 : (Jvm.Cond.lays "RankEntry$Inner" "RankEntry$Source" "pending" "Z") ∈ lw_all := lw_g (lw_at lw_m4 27 rfl) rfl
theorem q806 : (Jvm.Cond.lays "RankEntry$Inner" "RankEntry$Source" "active" "Z") ∈ lw_all := lw_g (lw_at lw_m4 28 rfl) rfl
theorem q807 : (Jvm.Cond.lays "RankEntry$Inner" "RankEntry$Source" "since" "I") ∈ lw_all := lw_g (lw_at lw_m4 29 rfl) rfl
theorem q808 : (Jvm.Cond.lays "RankEntry$Inner" "RankEntry$Source" "began" "I") ∈ lw_all := lw_g (lw_at lw_m4 30 rfl) rfl
theorem q809 : (Jvm.Cond.lays "RankEntry$Inner" "RankEntry$Source" "waited" "I") ∈ lw_all := lw_g (lw_at lw_m4 31 rfl) rfl
theorem q810 : (Jvm.Cond.superclass "RankEntry$Inner" "RankEntry$Source") ∈ lw_all := lw_g (lw_at lw_m4 32 rfl) rfl
theorem q1177 : (Jvm.Cond.selects "RankEntry$Inner" ({ cls := "RankEntry$Source", name := "forgets", desc := "()V" } : Jvm.MethodName) ({ cls := "RankEntry$Source", name := "forgets", desc := "()V" } : Jvm.MethodName)) ∈ lw_all := lw_g (lw_at lw_m5 159 rfl) rfl
theorem q1196 : (Jvm.Cond.selects "RankEntry$Inner" ({ cls := "RankEntry$Source", name := "told", desc := "()I" } : Jvm.MethodName) ({ cls := "RankEntry$Source", name := "told", desc := "()I" } : Jvm.MethodName)) ∈ lw_all := lw_g (lw_at lw_m5 178 rfl) rfl
theorem q1204 : (Jvm.Cond.selects "RankEntry$Inner" ({ cls := "RankEntry$Source", name := "isHeld", desc := "()Z" } : Jvm.MethodName) ({ cls := "RankEntry$Source", name := "isHeld", desc := "()Z" } : Jvm.MethodName)) ∈ lw_all := lw_g (lw_at lw_m5 186 rfl) rfl
theorem q1253 : (Jvm.Cond.selects "RankEntry$Inner" ({ cls := "RankEntry$Source", name := "takes", desc := "(LRankEntry$Source;)V" } : Jvm.MethodName) ({ cls := "RankEntry$Source", name := "takes", desc := "(LRankEntry$Source;)V" } : Jvm.MethodName)) ∈ lw_all := lw_g (lw_at lw_m5 235 rfl) rfl
theorem q2203 : (Jvm.Cond.castable "RankEntry$Inner" "java/lang/Object") ∈ lw_tbl := lw_at lw_m9 225 rfl
theorem q2243 : (Jvm.Cond.castable "RankEntry$Inner" "RankEntry$Source") ∈ lw_tbl := lw_at lw_m10 25 rfl
theorem in_X17 : ∀ w ∈ wsX170, w ∈ lw_all := lw_in wsX170 [801, 802, 803, 804, 805, 806, 807, 808, 809] (by decide +kernel) (by decide +kernel)
/-! RankEntry$Hard -/
set_option maxRecDepth 100000
def RX18 : String := "RankEntry$Hard"
def TX18 : u_T := fun k => match k with
  | 0 => ("RankEntry$Source", "number", "I", true)
  | 1 => ("RankEntry$Source", "rank", "I", false)
  | 2 => ("RankEntry$Source", "vector", "I", false)
  | 3 => ("RankEntry$Source", "enabled", "Z", false)
  | 4 => ("RankEntry$Source", "pending", "Z", false)
  | 5 => ("RankEntry$Source", "active", "Z", false)
  | 6 => ("RankEntry$Source", "since", "I", false)
  | 7 => ("RankEntry$Source", "began", "I", false)
  | _ => ("RankEntry$Source", "waited", "I", false)
def tyX18 : Nat → FieldType := fun k => match k with
  | 0 => .int
  | 1 => .int
  | 2 => .int
  | 3 => .boolean
  | 4 => .boolean
  | 5 => .boolean
  | 6 => .int
  | 7 => .int
  | _ => .int
abbrev wsX180 : List Cond := u_ws RX18 TX18 9
theorem nmX18 : ∀ a, a < 9 → ∀ b, b < 9 → a ≠ b → (TX18 a).2.1 ≠ (TX18 b).2.1 := by decide +kernel
theorem tyX18_ok : ∀ k, k < 9 → parseFieldDescriptor (TX18 k).2.2.1 = some (tyX18 k) := by decide +kernel
abbrev cX18_group : ByteArray := prog_11_method_2_code
def yX18_group : MethodName := ⟨RX18, "group", "(I)I"⟩
theorem dX18_group_0 : decode cX18_group 0 = .ok (.iconst (-1), 1) := by decide +kernel
theorem dX18_group_1 : decode cX18_group 1 = .ok (.ireturn, 1) := by decide +kernel
abbrev cX18_sub : ByteArray := prog_11_method_3_code
def yX18_sub : MethodName := ⟨RX18, "sub", "(I)I"⟩
theorem dX18_sub_0 : decode cX18_sub 0 = .ok (.iconst 0, 1) := by decide +kernel
theorem dX18_sub_1 : decode cX18_sub 1 = .ok (.ireturn, 1) := by decide +kernel
abbrev cX18_init : ByteArray := prog_11_method_1_code
def yX18_init : MethodName := ⟨RX18, "<init>", "(I)V"⟩
def dkwX18_init_0 : List UInt8 := [42, 27, 183, 0, 3, 42, 4, 181, 0, 9, 177]
abbrev dktX18_init_0 : List UInt8 := dkwX18_init_0 ++ []
theorem dksX18_init_0 : cX18_init.data.toList.drop 0 = dktX18_init_0 := by decide +kernel
theorem dX18_init_0 : decode cX18_init 0 = .ok (.aload_n 0, 1) := dk_42 (dk_at dksX18_init_0 0 rfl rfl)
theorem dX18_init_1 : decode cX18_init 1 = .ok (.iload_n 1, 1) := dk_27 (dk_at dksX18_init_0 1 rfl rfl)
theorem dX18_init_2 : decode cX18_init 2 = .ok (.invokespecial 3, 3) := dk_183 0 3 (dk_at dksX18_init_0 2 rfl rfl)
theorem dX18_init_5 : decode cX18_init 5 = .ok (.aload_n 0, 1) := dk_42 (dk_at dksX18_init_0 5 rfl rfl)
theorem dX18_init_6 : decode cX18_init 6 = .ok (.iconst 1, 1) := dk_4 (dk_at dksX18_init_0 6 rfl rfl)
theorem dX18_init_7 : decode cX18_init 7 = .ok (.putfield 9, 3) := dk_181 0 9 (dk_at dksX18_init_0 7 rfl rfl)
theorem dX18_init_10 : decode cX18_init 10 = .ok (.return_, 1) := dk_177 (dk_at dksX18_init_0 10 rfl rfl)
abbrev cX18_told : ByteArray := prog_11_method_4_code
def yX18_told : MethodName := ⟨RX18, "told", "()I"⟩
theorem dX18_told_0 : decode cX18_told 0 = .ok (.iconst (-1), 1) := by decide +kernel
theorem dX18_told_1 : decode cX18_told 1 = .ok (.ireturn, 1) := by decide +kernel
theorem q82 : (Jvm.Cond.initialized "RankEntry$Hard") ∈ lw_all := lw_g (lw_at lw_m1 24 rfl) rfl
theorem q219 : (Jvm.Cond.selects "RankEntry$Hard" ({ cls := "RankEntry$Source", name := "group", desc := "(I)I" } : Jvm.MethodName) ({ cls := "RankEntry$Hard", name := "group", desc := "(I)I" } : Jvm.MethodName)) ∈ lw_all := lw_g (lw_at lw_m1 161 rfl) rfl
theorem q220 : (Jvm.Cond.instanceMethod ({ cls := "RankEntry$Hard", name := "group", desc := "(I)I" } : Jvm.MethodName)) ∈ lw_all := lw_g (lw_at lw_m1 162 rfl) rfl
theorem q221 : (Jvm.Cond.code ({ cls := "RankEntry$Hard", name := "group", desc := "(I)I" } : Jvm.MethodName) prog_11_method_2_code (2 : Nat) (Option.some Jvm.ClassFile.FieldType.int)) ∈ lw_all := lw_g (lw_at lw_m1 163 rfl) rfl
theorem q294 : (Jvm.Cond.selects "RankEntry$Hard" ({ cls := "RankEntry$Source", name := "becomes", desc := "(I)Z" } : Jvm.MethodName) ({ cls := "RankEntry$Source", name := "becomes", desc := "(I)Z" } : Jvm.MethodName)) ∈ lw_all := lw_g (lw_at lw_m1 236 rfl) rfl
theorem q322 : (Jvm.Cond.selects "RankEntry$Hard" ({ cls := "RankEntry$Source", name := "begins", desc := "(I)V" } : Jvm.MethodName) ({ cls := "RankEntry$Source", name := "begins", desc := "(I)V" } : Jvm.MethodName)) ∈ lw_all := lw_g (lw_at lw_m2 24 rfl) rfl
theorem q465 : (Jvm.Cond.selects "RankEntry$Hard" ({ cls := "RankEntry$Source", name := "drops", desc := "()Z" } : Jvm.MethodName) ({ cls := "RankEntry$Source", name := "drops", desc := "()Z" } : Jvm.MethodName)) ∈ lw_all := lw_g (lw_at lw_m2 167 rfl) rfl
theorem q509 : (Jvm.Cond.selects "RankEntry$Hard" ({ cls := "RankEntry$Source", name := "ends", desc := "()Z" } : Jvm.MethodName) ({ cls := "RankEntry$Source", name := "ends", desc := "()Z" } : Jvm.MethodName)) ∈ lw_all := lw_g (lw_at lw_m2 211 rfl) rfl
theorem q712 : (Jvm.Cond.selects "RankEntry$Hard" ({ cls := "RankEntry$Source", name := "sub", desc := "(I)I" } : Jvm.MethodName) ({ cls := "RankEntry$Hard", name := "sub", desc := "(I)I" } : Jvm.MethodName)) ∈ lw_all := lw_g (lw_at lw_m3 174 rfl) rfl
theorem q713 : (Jvm.Cond.instanceMethod ({ cls := "RankEntry$Hard", name := "sub", desc := "(I)I" } : Jvm.MethodName)) ∈ lw_all := lw_g (lw_at lw_m3 175 rfl) rfl
theorem q714 : (Jvm.Cond.code ({ cls := "RankEntry$Hard", name := "sub", desc := "(I)I" } : Jvm.MethodName) prog_11_method_3_code (2 : Nat) (Option.some Jvm.ClassFile.FieldType.int)) ∈ lw_all := lw_g (lw_at lw_m3 176 rfl) rfl
theorem q741 : (Jvm.Cond.fieldLink "RankEntry$Hard" (9 : Nat) "RankEntry$Hard" "enabled" "Z") ∈ lw_all := lw_g (lw_at lw_m3 203 rfl) rfl
theorem q742 : (Jvm.Cond.sameField "RankEntry$Hard" "RankEntry$Source" "enabled" "Z") ∈ lw_all := lw_g (lw_at lw_m3 204 rfl) rfl
theorem q812 : (Jvm.Cond.instantiable "RankEntry$Hard" (9 : Nat)) ∈ lw_all := lw_g (lw_at lw_m4 34 rfl) rfl
theorem q814 : (Jvm.Cond.instanceMethod ({ cls := "RankEntry$Hard", name := "<init>", desc := "(I)V" } : Jvm.MethodName)) ∈ lw_all := lw_g (lw_at lw_m4 36 rfl) rfl
theorem q815 : (Jvm.Cond.code ({ cls := "RankEntry$Hard", name := "<init>", desc := "(I)V" } : Jvm.MethodName) prog_11_method_1_code (2 : Nat) (Option.none : Option Jvm.ClassFile.FieldType)) ∈ lw_all := lw_g (lw_at lw_m4 37 rfl) rfl
theorem q816 : (Jvm.Cond.methodLink "RankEntry$Hard" (3 : Nat) ({ cls := "RankEntry$Source", name := "<init>", desc := "(I)V" } : Jvm.MethodName)) ∈ lw_all := lw_g (lw_at lw_m4 38 rfl) rfl
theorem q817 : (Jvm.Cond.laysFinal "RankEntry$Hard" "RankEntry$Source" "number" "I") ∈ lw_all := lw_g (lw_at lw_m4 39 rfl) rfl
theorem q818 : (Jvm.Cond.lays "RankEntry$Hard" "RankEntry$Source" "rank" "I") ∈ lw_all := lw_g (lw_at lw_m4 40 rfl) rfl
theorem q819 : (Jvm.Cond.lays "RankEntry$Hard" "RankEntry$Source" "vector" "I") ∈ lw_all := lw_g (lw_at lw_m4 41 rfl) rfl
theorem q820 : (Jvm.Cond.lays "RankEntry$Hard" "RankEntry$Source" "enabled" "Z") ∈ lw_all := lw_g (lw_at lw_m4 42 rfl) rfl
theorem q821 : (Jvm.Cond.lays "RankEntry$Hard" "RankEntry$Source" "pending" "Z") ∈ lw_all := lw_g (lw_at lw_m4 43 rfl) rfl
theorem q822 : (Jvm.Cond.lays "RankEntry$Hard" "RankEntry$Source" "active" "Z") ∈ lw_all := lw_g (lw_at lw_m4 44 rfl) rfl
theorem q823 : (Jvm.Cond.lays "RankEntry$Hard" "RankEntry$Source" "since" "I") ∈ lw_all := lw_g (lw_at lw_m4 45 rfl) rfl
theorem q824 : (Jvm.Cond.lays "RankEntry$Hard" "RankEntry$Source" "began" "I") ∈ lw_all := lw_g (lw_at lw_m4 46 rfl) rfl
theorem q825 : (Jvm.Cond.lays "RankEntry$Hard" "RankEntry$Source" "waited" "I") ∈ lw_all := lw_g (lw_at lw_m4 47 rfl) rfl
theorem q826 : (Jvm.Cond.superclass "RankEntry$Hard" "RankEntry$Source") ∈ lw_all := lw_g (lw_at lw_m4 48 rfl) rfl
theorem q1176 : (Jvm.Cond.selects "RankEntry$Hard" ({ cls := "RankEntry$Source", name := "forgets", desc := "()V" } : Jvm.MethodName) ({ cls := "RankEntry$Source", name := "forgets", desc := "()V" } : Jvm.MethodName)) ∈ lw_all := lw_g (lw_at lw_m5 158 rfl) rfl
theorem q1193 : (Jvm.Cond.selects "RankEntry$Hard" ({ cls := "RankEntry$Source", name := "told", desc := "()I" } : Jvm.MethodName) ({ cls := "RankEntry$Hard", name := "told", desc := "()I" } : Jvm.MethodName)) ∈ lw_all := lw_g (lw_at lw_m5 175 rfl) rfl
theorem q1194 : (Jvm.Cond.instanceMethod ({ cls := "RankEntry$Hard", name := "told", desc := "()I" } : Jvm.MethodName)) ∈ lw_all := lw_g (lw_at lw_m5 176 rfl) rfl
theorem q1195 : (Jvm.Cond.code ({ cls := "RankEntry$Hard", name := "told", desc := "()I" } : Jvm.MethodName) prog_11_method_4_code (1 : Nat) (Option.some Jvm.ClassFile.FieldType.int)) ∈ lw_all := lw_g (lw_at lw_m5 177 rfl) rfl
theorem q1203 : (Jvm.Cond.selects "RankEntry$Hard" ({ cls := "RankEntry$Source", name := "isHeld", desc := "()Z" } : Jvm.MethodName) ({ cls := "RankEntry$Source", name := "isHeld", desc := "()Z" } : Jvm.MethodName)) ∈ lw_all := lw_g (lw_at lw_m5 185 rfl) rfl
theorem q1252 : (Jvm.Cond.selects "RankEntry$Hard" ({ cls := "RankEntry$Source", name := "takes", desc := "(LRankEntry$Source;)V" } : Jvm.MethodName) ({ cls := "RankEntry$Source", name := "takes", desc := "(LRankEntry$Source;)V" } : Jvm.MethodName)) ∈ lw_all := lw_g (lw_at lw_m5 234 rfl) rfl
theorem q2204 : (Jvm.Cond.castable "RankEntry$Hard" "java/lang/Object") ∈ lw_tbl := lw_at lw_m9 226 rfl
theorem q2244 : (Jvm.Cond.castable "RankEntry$Hard" "RankEntry$Source") ∈ lw_tbl := lw_at lw_m10 26 rfl
theorem in_X18 : ∀ w ∈ wsX180, w ∈ lw_all := lw_in wsX180 [817, 818, 819, 820, 821, 822, 823, 824, 825] (by decide +kernel) (by decide +kernel)
/-! RankEntry$Op$1 -/
set_option maxRecDepth 100000
def RX21 : String := "RankEntry$Op$1"
abbrev cX21_does : ByteArray := prog_16_method_2_code
def yX21_does : MethodName := ⟨RX21, "does", "(LRankEntry$Core;II)V"⟩
def dkwX21_does_0 : List UInt8 := [43, 28, 29, 182, 0, 7, 177]
abbrev dktX21_does_0 : List UInt8 := dkwX21_does_0 ++ []
theorem dksX21_does_0 : cX21_does.data.toList.drop 0 = dktX21_does_0 := by decide +kernel
theorem dX21_does_0 : decode cX21_does 0 = .ok (.aload_n 1, 1) := dk_43 (dk_at dksX21_does_0 0 rfl rfl)
theorem dX21_does_1 : decode cX21_does 1 = .ok (.iload_n 2, 1) := dk_28 (dk_at dksX21_does_0 1 rfl rfl)
theorem dX21_does_2 : decode cX21_does 2 = .ok (.iload_n 3, 1) := dk_29 (dk_at dksX21_does_0 2 rfl rfl)
theorem dX21_does_3 : decode cX21_does 3 = .ok (.invokevirtual 7, 3) := dk_182 0 7 (dk_at dksX21_does_0 3 rfl rfl)
theorem dX21_does_6 : decode cX21_does 6 = .ok (.return_, 1) := dk_177 (dk_at dksX21_does_0 6 rfl rfl)
theorem q365 : (Jvm.Cond.selects "RankEntry$Op$1" ({ cls := "RankEntry$Op", name := "isFloat", desc := "()Z" } : Jvm.MethodName) ({ cls := "RankEntry$Op", name := "isFloat", desc := "()Z" } : Jvm.MethodName)) ∈ lw_all := lw_g (lw_at lw_m2 67 rfl) rfl
theorem q423 : (Jvm.Cond.selects "RankEntry$Op$1" ({ cls := "RankEntry$Op", name := "does", desc := "(LRankEntry$Core;II)V" } : Jvm.MethodName) ({ cls := "RankEntry$Op$1", name := "does", desc := "(LRankEntry$Core;II)V" } : Jvm.MethodName)) ∈ lw_all := lw_g (lw_at lw_m2 125 rfl) rfl
theorem q424 : (Jvm.Cond.instanceMethod ({ cls := "RankEntry$Op$1", name := "does", desc := "(LRankEntry$Core;II)V" } : Jvm.MethodName)) ∈ lw_all := lw_g (lw_at lw_m2 126 rfl) rfl
theorem q425 : (Jvm.Cond.code ({ cls := "RankEntry$Op$1", name := "does", desc := "(LRankEntry$Core;II)V" } : Jvm.MethodName) prog_16_method_2_code (4 : Nat) (Option.none : Option Jvm.ClassFile.FieldType)) ∈ lw_all := lw_g (lw_at lw_m2 127 rfl) rfl
theorem q426 : (Jvm.Cond.methodLink "RankEntry$Op$1" (7 : Nat) ({ cls := "RankEntry$Core", name := "sets", desc := "(II)V" } : Jvm.MethodName)) ∈ lw_all := lw_g (lw_at lw_m2 128 rfl) rfl
theorem q1316 : (Jvm.Cond.selects "RankEntry$Op$1" ({ cls := "RankEntry$Op", name := "stops", desc := "()Z" } : Jvm.MethodName) ({ cls := "RankEntry$Op", name := "stops", desc := "()Z" } : Jvm.MethodName)) ∈ lw_all := lw_g (lw_at lw_m6 58 rfl) rfl
theorem q1351 : (Jvm.Cond.selects "RankEntry$Op$1" ({ cls := "RankEntry$Op", name := "ways", desc := "()I" } : Jvm.MethodName) ({ cls := "RankEntry$Op", name := "ways", desc := "()I" } : Jvm.MethodName)) ∈ lw_all := lw_g (lw_at lw_m6 93 rfl) rfl
theorem q1384 : (Jvm.Cond.selects "RankEntry$Op$1" ({ cls := "RankEntry$Op", name := "goesOn", desc := "()Z" } : Jvm.MethodName) ({ cls := "RankEntry$Op", name := "goesOn", desc := "()Z" } : Jvm.MethodName)) ∈ lw_all := lw_g (lw_at lw_m6 126 rfl) rfl
theorem q1421 : (Jvm.Cond.selects "RankEntry$Op$1" ({ cls := "RankEntry$Op", name := "jumps", desc := "()Z" } : Jvm.MethodName) ({ cls := "RankEntry$Op", name := "jumps", desc := "()Z" } : Jvm.MethodName)) ∈ lw_all := lw_g (lw_at lw_m6 163 rfl) rfl
theorem q1471 : (Jvm.Cond.selects "RankEntry$Op$1" ({ cls := "RankEntry$Op", name := "pushes", desc := "()I" } : Jvm.MethodName) ({ cls := "RankEntry$Op", name := "pushes", desc := "()I" } : Jvm.MethodName)) ∈ lw_all := lw_g (lw_at lw_m6 213 rfl) rfl
theorem q2165 : (Jvm.Cond.castable "RankEntry$Op$1" "java/lang/Object") ∈ lw_tbl := lw_at lw_m9 187 rfl
theorem q2212 : (Jvm.Cond.castable "RankEntry$Op$1" "RankEntry$Op") ∈ lw_tbl := lw_at lw_m9 234 rfl
/-! RankEntry$Op$10 -/
set_option maxRecDepth 100000
def RX22 : String := "RankEntry$Op$10"
abbrev cX22_does : ByteArray := prog_17_method_2_code
def yX22_does : MethodName := ⟨RX22, "does", "(LRankEntry$Core;II)V"⟩
def dkwX22_does_1 : List UInt8 := [180, 0, 13, 46, 182, 0, 21, 177]
abbrev dktX22_does_1 : List UInt8 := dkwX22_does_1 ++ []
def dkwX22_does_0 : List UInt8 := [43, 4, 182, 0, 7, 43, 89, 180, 0, 13, 4, 100, 181, 0, 13, 43, 28, 43, 180, 0, 17, 43]
abbrev dktX22_does_0 : List UInt8 := dkwX22_does_0 ++ dktX22_does_1
theorem dksX22_does_0 : cX22_does.data.toList.drop 0 = dktX22_does_0 := by decide +kernel
theorem dksX22_does_1 : cX22_does.data.toList.drop 22 = dktX22_does_1 := dk_seg dksX22_does_0 22 rfl rfl
theorem dX22_does_0 : decode cX22_does 0 = .ok (.aload_n 1, 1) := dk_43 (dk_at dksX22_does_0 0 rfl rfl)
theorem dX22_does_1 : decode cX22_does 1 = .ok (.iconst 1, 1) := dk_4 (dk_at dksX22_does_0 1 rfl rfl)
theorem dX22_does_2 : decode cX22_does 2 = .ok (.invokevirtual 7, 3) := dk_182 0 7 (dk_at dksX22_does_0 2 rfl rfl)
theorem dX22_does_5 : decode cX22_does 5 = .ok (.aload_n 1, 1) := dk_43 (dk_at dksX22_does_0 5 rfl rfl)
theorem dX22_does_6 : decode cX22_does 6 = .ok (.dup, 1) := dk_89 (dk_at dksX22_does_0 6 rfl rfl)
theorem dX22_does_7 : decode cX22_does 7 = .ok (.getfield 13, 3) := dk_180 0 13 (dk_at dksX22_does_0 7 rfl rfl)
theorem dX22_does_10 : decode cX22_does 10 = .ok (.iconst 1, 1) := dk_4 (dk_at dksX22_does_0 10 rfl rfl)
theorem dX22_does_11 : decode cX22_does 11 = .ok (.isub, 1) := dk_100 (dk_at dksX22_does_0 11 rfl rfl)
theorem dX22_does_12 : decode cX22_does 12 = .ok (.putfield 13, 3) := dk_181 0 13 (dk_at dksX22_does_0 12 rfl rfl)
theorem dX22_does_15 : decode cX22_does 15 = .ok (.aload_n 1, 1) := dk_43 (dk_at dksX22_does_0 15 rfl rfl)
theorem dX22_does_16 : decode cX22_does 16 = .ok (.iload_n 2, 1) := dk_28 (dk_at dksX22_does_0 16 rfl rfl)
theorem dX22_does_17 : decode cX22_does 17 = .ok (.aload_n 1, 1) := dk_43 (dk_at dksX22_does_0 17 rfl rfl)
theorem dX22_does_18 : decode cX22_does 18 = .ok (.getfield 17, 3) := dk_180 0 17 (dk_at dksX22_does_0 18 rfl rfl)
theorem dX22_does_21 : decode cX22_does 21 = .ok (.aload_n 1, 1) := dk_43 (dk_at dksX22_does_0 21 rfl rfl)
theorem dX22_does_22 : decode cX22_does 22 = .ok (.getfield 13, 3) := dk_180 0 13 (dk_at dksX22_does_1 0 rfl rfl)
theorem dX22_does_25 : decode cX22_does 25 = .ok (.iaload, 1) := dk_46 (dk_at dksX22_does_1 3 rfl rfl)
theorem dX22_does_26 : decode cX22_does 26 = .ok (.invokevirtual 21, 3) := dk_182 0 21 (dk_at dksX22_does_1 4 rfl rfl)
theorem dX22_does_29 : decode cX22_does 29 = .ok (.return_, 1) := dk_177 (dk_at dksX22_does_1 7 rfl rfl)
abbrev cX22_pushes : ByteArray := prog_17_method_3_code
def yX22_pushes : MethodName := ⟨RX22, "pushes", "()I"⟩
theorem dX22_pushes_0 : decode cX22_pushes 0 = .ok (.iconst (-1), 1) := by decide +kernel
theorem dX22_pushes_1 : decode cX22_pushes 1 = .ok (.ireturn, 1) := by decide +kernel
theorem q366 : (Jvm.Cond.selects "RankEntry$Op$10" ({ cls := "RankEntry$Op", name := "isFloat", desc := "()Z" } : Jvm.MethodName) ({ cls := "RankEntry$Op", name := "isFloat", desc := "()Z" } : Jvm.MethodName)) ∈ lw_all := lw_g (lw_at lw_m2 68 rfl) rfl
theorem q430 : (Jvm.Cond.selects "RankEntry$Op$10" ({ cls := "RankEntry$Op", name := "does", desc := "(LRankEntry$Core;II)V" } : Jvm.MethodName) ({ cls := "RankEntry$Op$10", name := "does", desc := "(LRankEntry$Core;II)V" } : Jvm.MethodName)) ∈ lw_all := lw_g (lw_at lw_m2 132 rfl) rfl
theorem q431 : (Jvm.Cond.instanceMethod ({ cls := "RankEntry$Op$10", name := "does", desc := "(LRankEntry$Core;II)V" } : Jvm.MethodName)) ∈ lw_all := lw_g (lw_at lw_m2 133 rfl) rfl
theorem q432 : (Jvm.Cond.code ({ cls := "RankEntry$Op$10", name := "does", desc := "(LRankEntry$Core;II)V" } : Jvm.MethodName) prog_17_method_2_code (4 : Nat) (Option.none : Option Jvm.ClassFile.FieldType)) ∈ lw_all := lw_g (lw_at lw_m2 134 rfl) rfl
theorem q433 : (Jvm.Cond.methodLink "RankEntry$Op$10" (7 : Nat) ({ cls := "RankEntry$Core", name := "needs", desc := "(I)V" } : Jvm.MethodName)) ∈ lw_all := lw_g (lw_at lw_m2 135 rfl) rfl
theorem q437 : (Jvm.Cond.methodLink "RankEntry$Op$10" (21 : Nat) ({ cls := "RankEntry$Core", name := "sets", desc := "(II)V" } : Jvm.MethodName)) ∈ lw_all := lw_g (lw_at lw_m2 139 rfl) rfl
theorem q846 : (Jvm.Cond.fieldLinkNest "RankEntry$Op$10" (17 : Nat) "RankEntry$Core" "stack" "[I" "RankEntry") ∈ lw_tbl := lw_at lw_m4 68 rfl
theorem q891 : (Jvm.Cond.fieldLinkNest "RankEntry$Op$10" (13 : Nat) "RankEntry$Core" "sp" "I" "RankEntry") ∈ lw_tbl := lw_at lw_m4 113 rfl
theorem q1317 : (Jvm.Cond.selects "RankEntry$Op$10" ({ cls := "RankEntry$Op", name := "stops", desc := "()Z" } : Jvm.MethodName) ({ cls := "RankEntry$Op", name := "stops", desc := "()Z" } : Jvm.MethodName)) ∈ lw_all := lw_g (lw_at lw_m6 59 rfl) rfl
theorem q1352 : (Jvm.Cond.selects "RankEntry$Op$10" ({ cls := "RankEntry$Op", name := "ways", desc := "()I" } : Jvm.MethodName) ({ cls := "RankEntry$Op", name := "ways", desc := "()I" } : Jvm.MethodName)) ∈ lw_all := lw_g (lw_at lw_m6 94 rfl) rfl
theorem q1385 : (Jvm.Cond.selects "RankEntry$Op$10" ({ cls := "RankEntry$Op", name := "goesOn", desc := "()Z" } : Jvm.MethodName) ({ cls := "RankEntry$Op", name := "goesOn", desc := "()Z" } : Jvm.MethodName)) ∈ lw_all := lw_g (lw_at lw_m6 127 rfl) rfl
theorem q1422 : (Jvm.Cond.selects "RankEntry$Op$10" ({ cls := "RankEntry$Op", name := "jumps", desc := "()Z" } : Jvm.MethodName) ({ cls := "RankEntry$Op", name := "jumps", desc := "()Z" } : Jvm.MethodName)) ∈ lw_all := lw_g (lw_at lw_m6 164 rfl) rfl
theorem q1472 : (Jvm.Cond.selects "RankEntry$Op$10" ({ cls := "RankEntry$Op", name := "pushes", desc := "()I" } : Jvm.MethodName) ({ cls := "RankEntry$Op$10", name := "pushes", desc := "()I" } : Jvm.MethodName)) ∈ lw_all := lw_g (lw_at lw_m6 214 rfl) rfl
theorem q1473 : (Jvm.Cond.instanceMethod ({ cls := "RankEntry$Op$10", name := "pushes", desc := "()I" } : Jvm.MethodName)) ∈ lw_all := lw_g (lw_at lw_m6 215 rfl) rfl
theorem q1474 : (Jvm.Cond.code ({ cls := "RankEntry$Op$10", name := "pushes", desc := "()I" } : Jvm.MethodName) prog_17_method_3_code (1 : Nat) (Option.some Jvm.ClassFile.FieldType.int)) ∈ lw_all := lw_g (lw_at lw_m6 216 rfl) rfl
theorem q2174 : (Jvm.Cond.castable "RankEntry$Op$10" "java/lang/Object") ∈ lw_tbl := lw_at lw_m9 196 rfl
theorem q2221 : (Jvm.Cond.castable "RankEntry$Op$10" "RankEntry$Op") ∈ lw_tbl := lw_at lw_m10 3 rfl
/-! RankEntry$Op$14 -/
set_option maxRecDepth 100000
def RX23 : String := "RankEntry$Op$14"
abbrev cX23_does : ByteArray := prog_21_method_2_code
def yX23_does : MethodName := ⟨RX23, "does", "(LRankEntry$Core;II)V"⟩
def dkwX23_does_0 : List UInt8 := [43, 28, 16, 18, 112, 182, 0, 9, 87, 177]
abbrev dktX23_does_0 : List UInt8 := dkwX23_does_0 ++ []
theorem dksX23_does_0 : cX23_does.data.toList.drop 0 = dktX23_does_0 := by decide +kernel
theorem dX23_does_0 : decode cX23_does 0 = .ok (.aload_n 1, 1) := dk_43 (dk_at dksX23_does_0 0 rfl rfl)
theorem dX23_does_1 : decode cX23_does 1 = .ok (.iload_n 2, 1) := dk_28 (dk_at dksX23_does_0 1 rfl rfl)
theorem dX23_does_2 : decode cX23_does 2 = .ok (.bipush 18, 2) := dk_16 18 (dk_at dksX23_does_0 2 rfl rfl)
theorem dX23_does_4 : decode cX23_does 4 = .ok (.irem, 1) := dk_112 (dk_at dksX23_does_0 4 rfl rfl)
theorem dX23_does_5 : decode cX23_does 5 = .ok (.invokevirtual 9, 3) := dk_182 0 9 (dk_at dksX23_does_0 5 rfl rfl)
theorem dX23_does_8 : decode cX23_does 8 = .ok (.pop, 1) := dk_87 (dk_at dksX23_does_0 8 rfl rfl)
theorem dX23_does_9 : decode cX23_does 9 = .ok (.return_, 1) := dk_177 (dk_at dksX23_does_0 9 rfl rfl)
theorem q370 : (Jvm.Cond.selects "RankEntry$Op$14" ({ cls := "RankEntry$Op", name := "isFloat", desc := "()Z" } : Jvm.MethodName) ({ cls := "RankEntry$Op", name := "isFloat", desc := "()Z" } : Jvm.MethodName)) ∈ lw_all := lw_g (lw_at lw_m2 72 rfl) rfl
theorem q455 : (Jvm.Cond.selects "RankEntry$Op$14" ({ cls := "RankEntry$Op", name := "does", desc := "(LRankEntry$Core;II)V" } : Jvm.MethodName) ({ cls := "RankEntry$Op$14", name := "does", desc := "(LRankEntry$Core;II)V" } : Jvm.MethodName)) ∈ lw_all := lw_g (lw_at lw_m2 157 rfl) rfl
theorem q456 : (Jvm.Cond.instanceMethod ({ cls := "RankEntry$Op$14", name := "does", desc := "(LRankEntry$Core;II)V" } : Jvm.MethodName)) ∈ lw_all := lw_g (lw_at lw_m2 158 rfl) rfl
theorem q457 : (Jvm.Cond.code ({ cls := "RankEntry$Op$14", name := "does", desc := "(LRankEntry$Core;II)V" } : Jvm.MethodName) prog_21_method_2_code (4 : Nat) (Option.none : Option Jvm.ClassFile.FieldType)) ∈ lw_all := lw_g (lw_at lw_m2 159 rfl) rfl
theorem q458 : (Jvm.Cond.methodLink "RankEntry$Op$14" (9 : Nat) ({ cls := "RankEntry$Core", name := "becomes", desc := "(I)Z" } : Jvm.MethodName)) ∈ lw_all := lw_g (lw_at lw_m2 160 rfl) rfl
theorem q1321 : (Jvm.Cond.selects "RankEntry$Op$14" ({ cls := "RankEntry$Op", name := "stops", desc := "()Z" } : Jvm.MethodName) ({ cls := "RankEntry$Op", name := "stops", desc := "()Z" } : Jvm.MethodName)) ∈ lw_all := lw_g (lw_at lw_m6 63 rfl) rfl
theorem q1356 : (Jvm.Cond.selects "RankEntry$Op$14" ({ cls := "RankEntry$Op", name := "ways", desc := "()I" } : Jvm.MethodName) ({ cls := "RankEntry$Op", name := "ways", desc := "()I" } : Jvm.MethodName)) ∈ lw_all := lw_g (lw_at lw_m6 98 rfl) rfl
theorem q1391 : (Jvm.Cond.selects "RankEntry$Op$14" ({ cls := "RankEntry$Op", name := "goesOn", desc := "()Z" } : Jvm.MethodName) ({ cls := "RankEntry$Op", name := "goesOn", desc := "()Z" } : Jvm.MethodName)) ∈ lw_all := lw_g (lw_at lw_m6 133 rfl) rfl
theorem q1432 : (Jvm.Cond.selects "RankEntry$Op$14" ({ cls := "RankEntry$Op", name := "jumps", desc := "()Z" } : Jvm.MethodName) ({ cls := "RankEntry$Op", name := "jumps", desc := "()Z" } : Jvm.MethodName)) ∈ lw_all := lw_g (lw_at lw_m6 174 rfl) rfl
theorem q1478 : (Jvm.Cond.selects "RankEntry$Op$14" ({ cls := "RankEntry$Op", name := "pushes", desc := "()I" } : Jvm.MethodName) ({ cls := "RankEntry$Op", name := "pushes", desc := "()I" } : Jvm.MethodName)) ∈ lw_all := lw_g (lw_at lw_m6 220 rfl) rfl
theorem q2178 : (Jvm.Cond.castable "RankEntry$Op$14" "java/lang/Object") ∈ lw_tbl := lw_at lw_m9 200 rfl
theorem q2225 : (Jvm.Cond.castable "RankEntry$Op$14" "RankEntry$Op") ∈ lw_tbl := lw_at lw_m10 7 rfl
/-! RankEntry$Op$15 -/
set_option maxRecDepth 100000
def RX24 : String := "RankEntry$Op$15"
abbrev cX24_does : ByteArray := prog_22_method_2_code
def yX24_does : MethodName := ⟨RX24, "does", "(LRankEntry$Core;II)V"⟩
def dkwX24_does_0 : List UInt8 := [43, 180, 0, 9, 28, 16, 18, 112, 50, 182, 0, 15, 87, 177]
abbrev dktX24_does_0 : List UInt8 := dkwX24_does_0 ++ []
theorem dksX24_does_0 : cX24_does.data.toList.drop 0 = dktX24_does_0 := by decide +kernel
theorem dX24_does_0 : decode cX24_does 0 = .ok (.aload_n 1, 1) := dk_43 (dk_at dksX24_does_0 0 rfl rfl)
theorem dX24_does_1 : decode cX24_does 1 = .ok (.getfield 9, 3) := dk_180 0 9 (dk_at dksX24_does_0 1 rfl rfl)
theorem dX24_does_4 : decode cX24_does 4 = .ok (.iload_n 2, 1) := dk_28 (dk_at dksX24_does_0 4 rfl rfl)
theorem dX24_does_5 : decode cX24_does 5 = .ok (.bipush 18, 2) := dk_16 18 (dk_at dksX24_does_0 5 rfl rfl)
theorem dX24_does_7 : decode cX24_does 7 = .ok (.irem, 1) := dk_112 (dk_at dksX24_does_0 7 rfl rfl)
theorem dX24_does_8 : decode cX24_does 8 = .ok (.aaload, 1) := dk_50 (dk_at dksX24_does_0 8 rfl rfl)
theorem dX24_does_9 : decode cX24_does 9 = .ok (.invokevirtual 15, 3) := dk_182 0 15 (dk_at dksX24_does_0 9 rfl rfl)
theorem dX24_does_12 : decode cX24_does 12 = .ok (.pop, 1) := dk_87 (dk_at dksX24_does_0 12 rfl rfl)
theorem dX24_does_13 : decode cX24_does 13 = .ok (.return_, 1) := dk_177 (dk_at dksX24_does_0 13 rfl rfl)
theorem q371 : (Jvm.Cond.selects "RankEntry$Op$15" ({ cls := "RankEntry$Op", name := "isFloat", desc := "()Z" } : Jvm.MethodName) ({ cls := "RankEntry$Op", name := "isFloat", desc := "()Z" } : Jvm.MethodName)) ∈ lw_all := lw_g (lw_at lw_m2 73 rfl) rfl
theorem q459 : (Jvm.Cond.selects "RankEntry$Op$15" ({ cls := "RankEntry$Op", name := "does", desc := "(LRankEntry$Core;II)V" } : Jvm.MethodName) ({ cls := "RankEntry$Op$15", name := "does", desc := "(LRankEntry$Core;II)V" } : Jvm.MethodName)) ∈ lw_all := lw_g (lw_at lw_m2 161 rfl) rfl
theorem q460 : (Jvm.Cond.instanceMethod ({ cls := "RankEntry$Op$15", name := "does", desc := "(LRankEntry$Core;II)V" } : Jvm.MethodName)) ∈ lw_all := lw_g (lw_at lw_m2 162 rfl) rfl
theorem q461 : (Jvm.Cond.code ({ cls := "RankEntry$Op$15", name := "does", desc := "(LRankEntry$Core;II)V" } : Jvm.MethodName) prog_22_method_2_code (4 : Nat) (Option.none : Option Jvm.ClassFile.FieldType)) ∈ lw_all := lw_g (lw_at lw_m2 163 rfl) rfl
theorem q462 : (Jvm.Cond.methodLink "RankEntry$Op$15" (15 : Nat) ({ cls := "RankEntry$Source", name := "drops", desc := "()Z" } : Jvm.MethodName)) ∈ lw_all := lw_g (lw_at lw_m2 164 rfl) rfl
theorem q849 : (Jvm.Cond.fieldLinkNest "RankEntry$Op$15" (9 : Nat) "RankEntry$Core" "all" "[LRankEntry$Source;" "RankEntry") ∈ lw_tbl := lw_at lw_m4 71 rfl
theorem q1322 : (Jvm.Cond.selects "RankEntry$Op$15" ({ cls := "RankEntry$Op", name := "stops", desc := "()Z" } : Jvm.MethodName) ({ cls := "RankEntry$Op", name := "stops", desc := "()Z" } : Jvm.MethodName)) ∈ lw_all := lw_g (lw_at lw_m6 64 rfl) rfl
theorem q1357 : (Jvm.Cond.selects "RankEntry$Op$15" ({ cls := "RankEntry$Op", name := "ways", desc := "()I" } : Jvm.MethodName) ({ cls := "RankEntry$Op", name := "ways", desc := "()I" } : Jvm.MethodName)) ∈ lw_all := lw_g (lw_at lw_m6 99 rfl) rfl
theorem q1392 : (Jvm.Cond.selects "RankEntry$Op$15" ({ cls := "RankEntry$Op", name := "goesOn", desc := "()Z" } : Jvm.MethodName) ({ cls := "RankEntry$Op", name := "goesOn", desc := "()Z" } : Jvm.MethodName)) ∈ lw_all := lw_g (lw_at lw_m6 134 rfl) rfl
theorem q1433 : (Jvm.Cond.selects "RankEntry$Op$15" ({ cls := "RankEntry$Op", name := "jumps", desc := "()Z" } : Jvm.MethodName) ({ cls := "RankEntry$Op", name := "jumps", desc := "()Z" } : Jvm.MethodName)) ∈ lw_all := lw_g (lw_at lw_m6 175 rfl) rfl
theorem q1479 : (Jvm.Cond.selects "RankEntry$Op$15" ({ cls := "RankEntry$Op", name := "pushes", desc := "()I" } : Jvm.MethodName) ({ cls := "RankEntry$Op", name := "pushes", desc := "()I" } : Jvm.MethodName)) ∈ lw_all := lw_g (lw_at lw_m6 221 rfl) rfl
theorem q2179 : (Jvm.Cond.castable "RankEntry$Op$15" "java/lang/Object") ∈ lw_tbl := lw_at lw_m9 201 rfl
theorem q2226 : (Jvm.Cond.castable "RankEntry$Op$15" "RankEntry$Op") ∈ lw_tbl := lw_at lw_m10 8 rfl
/-! RankEntry$Op$16 -/
set_option maxRecDepth 100000
def RX25 : String := "RankEntry$Op$16"
abbrev cX25_does : ByteArray := prog_23_method_2_code
def yX25_does : MethodName := ⟨RX25, "does", "(LRankEntry$Core;II)V"⟩
def dkwX25_does_0 : List UInt8 := [43, 28, 4, 126, 181, 0, 7, 177]
abbrev dktX25_does_0 : List UInt8 := dkwX25_does_0 ++ []
theorem dksX25_does_0 : cX25_does.data.toList.drop 0 = dktX25_does_0 := by decide +kernel
theorem dX25_does_0 : decode cX25_does 0 = .ok (.aload_n 1, 1) := dk_43 (dk_at dksX25_does_0 0 rfl rfl)
theorem dX25_does_1 : decode cX25_does 1 = .ok (.iload_n 2, 1) := dk_28 (dk_at dksX25_does_0 1 rfl rfl)
theorem dX25_does_2 : decode cX25_does 2 = .ok (.iconst 1, 1) := dk_4 (dk_at dksX25_does_0 2 rfl rfl)
theorem dX25_does_3 : decode cX25_does 3 = .ok (.iand, 1) := dk_126 (dk_at dksX25_does_0 3 rfl rfl)
theorem dX25_does_4 : decode cX25_does 4 = .ok (.putfield 7, 3) := dk_181 0 7 (dk_at dksX25_does_0 4 rfl rfl)
theorem dX25_does_7 : decode cX25_does 7 = .ok (.return_, 1) := dk_177 (dk_at dksX25_does_0 7 rfl rfl)
theorem q372 : (Jvm.Cond.selects "RankEntry$Op$16" ({ cls := "RankEntry$Op", name := "isFloat", desc := "()Z" } : Jvm.MethodName) ({ cls := "RankEntry$Op", name := "isFloat", desc := "()Z" } : Jvm.MethodName)) ∈ lw_all := lw_g (lw_at lw_m2 74 rfl) rfl
theorem q477 : (Jvm.Cond.selects "RankEntry$Op$16" ({ cls := "RankEntry$Op", name := "does", desc := "(LRankEntry$Core;II)V" } : Jvm.MethodName) ({ cls := "RankEntry$Op$16", name := "does", desc := "(LRankEntry$Core;II)V" } : Jvm.MethodName)) ∈ lw_all := lw_g (lw_at lw_m2 179 rfl) rfl
theorem q478 : (Jvm.Cond.instanceMethod ({ cls := "RankEntry$Op$16", name := "does", desc := "(LRankEntry$Core;II)V" } : Jvm.MethodName)) ∈ lw_all := lw_g (lw_at lw_m2 180 rfl) rfl
theorem q479 : (Jvm.Cond.code ({ cls := "RankEntry$Op$16", name := "does", desc := "(LRankEntry$Core;II)V" } : Jvm.MethodName) prog_23_method_2_code (4 : Nat) (Option.none : Option Jvm.ClassFile.FieldType)) ∈ lw_all := lw_g (lw_at lw_m2 181 rfl) rfl
theorem q902 : (Jvm.Cond.fieldLinkNest "RankEntry$Op$16" (7 : Nat) "RankEntry$Core" "shut" "I" "RankEntry") ∈ lw_tbl := lw_at lw_m4 124 rfl
theorem q1323 : (Jvm.Cond.selects "RankEntry$Op$16" ({ cls := "RankEntry$Op", name := "stops", desc := "()Z" } : Jvm.MethodName) ({ cls := "RankEntry$Op", name := "stops", desc := "()Z" } : Jvm.MethodName)) ∈ lw_all := lw_g (lw_at lw_m6 65 rfl) rfl
theorem q1358 : (Jvm.Cond.selects "RankEntry$Op$16" ({ cls := "RankEntry$Op", name := "ways", desc := "()I" } : Jvm.MethodName) ({ cls := "RankEntry$Op", name := "ways", desc := "()I" } : Jvm.MethodName)) ∈ lw_all := lw_g (lw_at lw_m6 100 rfl) rfl
theorem q1393 : (Jvm.Cond.selects "RankEntry$Op$16" ({ cls := "RankEntry$Op", name := "goesOn", desc := "()Z" } : Jvm.MethodName) ({ cls := "RankEntry$Op", name := "goesOn", desc := "()Z" } : Jvm.MethodName)) ∈ lw_all := lw_g (lw_at lw_m6 135 rfl) rfl
theorem q1434 : (Jvm.Cond.selects "RankEntry$Op$16" ({ cls := "RankEntry$Op", name := "jumps", desc := "()Z" } : Jvm.MethodName) ({ cls := "RankEntry$Op", name := "jumps", desc := "()Z" } : Jvm.MethodName)) ∈ lw_all := lw_g (lw_at lw_m6 176 rfl) rfl
theorem q1480 : (Jvm.Cond.selects "RankEntry$Op$16" ({ cls := "RankEntry$Op", name := "pushes", desc := "()I" } : Jvm.MethodName) ({ cls := "RankEntry$Op", name := "pushes", desc := "()I" } : Jvm.MethodName)) ∈ lw_all := lw_g (lw_at lw_m6 222 rfl) rfl
theorem q2180 : (Jvm.Cond.castable "RankEntry$Op$16" "java/lang/Object") ∈ lw_tbl := lw_at lw_m9 202 rfl
theorem q2227 : (Jvm.Cond.castable "RankEntry$Op$16" "RankEntry$Op") ∈ lw_tbl := lw_at lw_m10 9 rfl
/-! RankEntry$Op$17 -/
set_option maxRecDepth 100000
def RX26 : String := "RankEntry$Op$17"
abbrev cX26_does : ByteArray := prog_24_method_2_code
def yX26_does : MethodName := ⟨RX26, "does", "(LRankEntry$Core;II)V"⟩
def dkwX26_does_0 : List UInt8 := [43, 28, 181, 0, 7, 177]
abbrev dktX26_does_0 : List UInt8 := dkwX26_does_0 ++ []
theorem dksX26_does_0 : cX26_does.data.toList.drop 0 = dktX26_does_0 := by decide +kernel
theorem dX26_does_0 : decode cX26_does 0 = .ok (.aload_n 1, 1) := dk_43 (dk_at dksX26_does_0 0 rfl rfl)
theorem dX26_does_1 : decode cX26_does 1 = .ok (.iload_n 2, 1) := dk_28 (dk_at dksX26_does_0 1 rfl rfl)
theorem dX26_does_2 : decode cX26_does 2 = .ok (.putfield 7, 3) := dk_181 0 7 (dk_at dksX26_does_0 2 rfl rfl)
theorem dX26_does_5 : decode cX26_does 5 = .ok (.return_, 1) := dk_177 (dk_at dksX26_does_0 5 rfl rfl)
theorem q373 : (Jvm.Cond.selects "RankEntry$Op$17" ({ cls := "RankEntry$Op", name := "isFloat", desc := "()Z" } : Jvm.MethodName) ({ cls := "RankEntry$Op", name := "isFloat", desc := "()Z" } : Jvm.MethodName)) ∈ lw_all := lw_g (lw_at lw_m2 75 rfl) rfl
theorem q480 : (Jvm.Cond.selects "RankEntry$Op$17" ({ cls := "RankEntry$Op", name := "does", desc := "(LRankEntry$Core;II)V" } : Jvm.MethodName) ({ cls := "RankEntry$Op$17", name := "does", desc := "(LRankEntry$Core;II)V" } : Jvm.MethodName)) ∈ lw_all := lw_g (lw_at lw_m2 182 rfl) rfl
theorem q481 : (Jvm.Cond.instanceMethod ({ cls := "RankEntry$Op$17", name := "does", desc := "(LRankEntry$Core;II)V" } : Jvm.MethodName)) ∈ lw_all := lw_g (lw_at lw_m2 183 rfl) rfl
theorem q482 : (Jvm.Cond.code ({ cls := "RankEntry$Op$17", name := "does", desc := "(LRankEntry$Core;II)V" } : Jvm.MethodName) prog_24_method_2_code (4 : Nat) (Option.none : Option Jvm.ClassFile.FieldType)) ∈ lw_all := lw_g (lw_at lw_m2 184 rfl) rfl
theorem q899 : (Jvm.Cond.fieldLinkNest "RankEntry$Op$17" (7 : Nat) "RankEntry$Core" "base" "I" "RankEntry") ∈ lw_tbl := lw_at lw_m4 121 rfl
theorem q1324 : (Jvm.Cond.selects "RankEntry$Op$17" ({ cls := "RankEntry$Op", name := "stops", desc := "()Z" } : Jvm.MethodName) ({ cls := "RankEntry$Op", name := "stops", desc := "()Z" } : Jvm.MethodName)) ∈ lw_all := lw_g (lw_at lw_m6 66 rfl) rfl
theorem q1359 : (Jvm.Cond.selects "RankEntry$Op$17" ({ cls := "RankEntry$Op", name := "ways", desc := "()I" } : Jvm.MethodName) ({ cls := "RankEntry$Op", name := "ways", desc := "()I" } : Jvm.MethodName)) ∈ lw_all := lw_g (lw_at lw_m6 101 rfl) rfl
theorem q1394 : (Jvm.Cond.selects "RankEntry$Op$17" ({ cls := "RankEntry$Op", name := "goesOn", desc := "()Z" } : Jvm.MethodName) ({ cls := "RankEntry$Op", name := "goesOn", desc := "()Z" } : Jvm.MethodName)) ∈ lw_all := lw_g (lw_at lw_m6 136 rfl) rfl
theorem q1435 : (Jvm.Cond.selects "RankEntry$Op$17" ({ cls := "RankEntry$Op", name := "jumps", desc := "()Z" } : Jvm.MethodName) ({ cls := "RankEntry$Op", name := "jumps", desc := "()Z" } : Jvm.MethodName)) ∈ lw_all := lw_g (lw_at lw_m6 177 rfl) rfl
theorem q1481 : (Jvm.Cond.selects "RankEntry$Op$17" ({ cls := "RankEntry$Op", name := "pushes", desc := "()I" } : Jvm.MethodName) ({ cls := "RankEntry$Op", name := "pushes", desc := "()I" } : Jvm.MethodName)) ∈ lw_all := lw_g (lw_at lw_m6 223 rfl) rfl
theorem q2181 : (Jvm.Cond.castable "RankEntry$Op$17" "java/lang/Object") ∈ lw_tbl := lw_at lw_m9 203 rfl
theorem q2228 : (Jvm.Cond.castable "RankEntry$Op$17" "RankEntry$Op") ∈ lw_tbl := lw_at lw_m10 10 rfl
/-! RankEntry$Op$18 -/
set_option maxRecDepth 100000
def RX27 : String := "RankEntry$Op$18"
abbrev cX27_does : ByteArray := prog_25_method_2_code
def yX27_does : MethodName := ⟨RX27, "does", "(LRankEntry$Core;II)V"⟩
theorem dX27_does_0 : decode cX27_does 0 = .ok (.aload_n 1, 1) := by decide +kernel
theorem dX27_does_1 : decode cX27_does 1 = .ok (.invokevirtual 7, 3) := by decide +kernel
theorem dX27_does_4 : decode cX27_does 4 = .ok (.return_, 1) := by decide +kernel
abbrev cX27_goesOn : ByteArray := prog_25_method_3_code
def yX27_goesOn : MethodName := ⟨RX27, "goesOn", "()Z"⟩
theorem dX27_goesOn_0 : decode cX27_goesOn 0 = .ok (.iconst 0, 1) := by decide +kernel
theorem dX27_goesOn_1 : decode cX27_goesOn 1 = .ok (.ireturn, 1) := by decide +kernel
theorem q374 : (Jvm.Cond.selects "RankEntry$Op$18" ({ cls := "RankEntry$Op", name := "isFloat", desc := "()Z" } : Jvm.MethodName) ({ cls := "RankEntry$Op", name := "isFloat", desc := "()Z" } : Jvm.MethodName)) ∈ lw_all := lw_g (lw_at lw_m2 76 rfl) rfl
theorem q483 : (Jvm.Cond.selects "RankEntry$Op$18" ({ cls := "RankEntry$Op", name := "does", desc := "(LRankEntry$Core;II)V" } : Jvm.MethodName) ({ cls := "RankEntry$Op$18", name := "does", desc := "(LRankEntry$Core;II)V" } : Jvm.MethodName)) ∈ lw_all := lw_g (lw_at lw_m2 185 rfl) rfl
theorem q484 : (Jvm.Cond.instanceMethod ({ cls := "RankEntry$Op$18", name := "does", desc := "(LRankEntry$Core;II)V" } : Jvm.MethodName)) ∈ lw_all := lw_g (lw_at lw_m2 186 rfl) rfl
theorem q485 : (Jvm.Cond.code ({ cls := "RankEntry$Op$18", name := "does", desc := "(LRankEntry$Core;II)V" } : Jvm.MethodName) prog_25_method_2_code (4 : Nat) (Option.none : Option Jvm.ClassFile.FieldType)) ∈ lw_all := lw_g (lw_at lw_m2 187 rfl) rfl
theorem q486 : (Jvm.Cond.methodLink "RankEntry$Op$18" (7 : Nat) ({ cls := "RankEntry$Core", name := "ends", desc := "()V" } : Jvm.MethodName)) ∈ lw_all := lw_g (lw_at lw_m2 188 rfl) rfl
theorem q1325 : (Jvm.Cond.selects "RankEntry$Op$18" ({ cls := "RankEntry$Op", name := "stops", desc := "()Z" } : Jvm.MethodName) ({ cls := "RankEntry$Op", name := "stops", desc := "()Z" } : Jvm.MethodName)) ∈ lw_all := lw_g (lw_at lw_m6 67 rfl) rfl
theorem q1360 : (Jvm.Cond.selects "RankEntry$Op$18" ({ cls := "RankEntry$Op", name := "ways", desc := "()I" } : Jvm.MethodName) ({ cls := "RankEntry$Op", name := "ways", desc := "()I" } : Jvm.MethodName)) ∈ lw_all := lw_g (lw_at lw_m6 102 rfl) rfl
theorem q1395 : (Jvm.Cond.selects "RankEntry$Op$18" ({ cls := "RankEntry$Op", name := "goesOn", desc := "()Z" } : Jvm.MethodName) ({ cls := "RankEntry$Op$18", name := "goesOn", desc := "()Z" } : Jvm.MethodName)) ∈ lw_all := lw_g (lw_at lw_m6 137 rfl) rfl
theorem q1396 : (Jvm.Cond.instanceMethod ({ cls := "RankEntry$Op$18", name := "goesOn", desc := "()Z" } : Jvm.MethodName)) ∈ lw_all := lw_g (lw_at lw_m6 138 rfl) rfl
theorem q1397 : (Jvm.Cond.code ({ cls := "RankEntry$Op$18", name := "goesOn", desc := "()Z" } : Jvm.MethodName) prog_25_method_3_code (1 : Nat) (Option.some Jvm.ClassFile.FieldType.boolean)) ∈ lw_all := lw_g (lw_at lw_m6 139 rfl) rfl
theorem q1436 : (Jvm.Cond.selects "RankEntry$Op$18" ({ cls := "RankEntry$Op", name := "jumps", desc := "()Z" } : Jvm.MethodName) ({ cls := "RankEntry$Op", name := "jumps", desc := "()Z" } : Jvm.MethodName)) ∈ lw_all := lw_g (lw_at lw_m6 178 rfl) rfl
theorem q1482 : (Jvm.Cond.selects "RankEntry$Op$18" ({ cls := "RankEntry$Op", name := "pushes", desc := "()I" } : Jvm.MethodName) ({ cls := "RankEntry$Op", name := "pushes", desc := "()I" } : Jvm.MethodName)) ∈ lw_all := lw_g (lw_at lw_m6 224 rfl) rfl
theorem q2182 : (Jvm.Cond.castable "RankEntry$Op$18" "java/lang/Object") ∈ lw_tbl := lw_at lw_m9 204 rfl
theorem q2229 : (Jvm.Cond.castable "RankEntry$Op$18" "RankEntry$Op") ∈ lw_tbl := lw_at lw_m10 11 rfl
/-! RankEntry$Op$19 -/
set_option maxRecDepth 100000
def RX28 : String := "RankEntry$Op$19"
abbrev cX28_does : ByteArray := prog_26_method_2_code
def yX28_does : MethodName := ⟨RX28, "does", "(LRankEntry$Core;II)V"⟩
def dkwX28_does_0 : List UInt8 := [43, 4, 181, 0, 7, 177]
abbrev dktX28_does_0 : List UInt8 := dkwX28_does_0 ++ []
theorem dksX28_does_0 : cX28_does.data.toList.drop 0 = dktX28_does_0 := by decide +kernel
theorem dX28_does_0 : decode cX28_does 0 = .ok (.aload_n 1, 1) := dk_43 (dk_at dksX28_does_0 0 rfl rfl)
theorem dX28_does_1 : decode cX28_does 1 = .ok (.iconst 1, 1) := dk_4 (dk_at dksX28_does_0 1 rfl rfl)
theorem dX28_does_2 : decode cX28_does 2 = .ok (.putfield 7, 3) := dk_181 0 7 (dk_at dksX28_does_0 2 rfl rfl)
theorem dX28_does_5 : decode cX28_does 5 = .ok (.return_, 1) := dk_177 (dk_at dksX28_does_0 5 rfl rfl)
abbrev cX28_stops : ByteArray := prog_26_method_3_code
def yX28_stops : MethodName := ⟨RX28, "stops", "()Z"⟩
theorem dX28_stops_0 : decode cX28_stops 0 = .ok (.iconst 1, 1) := by decide +kernel
theorem dX28_stops_1 : decode cX28_stops 1 = .ok (.ireturn, 1) := by decide +kernel
theorem q375 : (Jvm.Cond.selects "RankEntry$Op$19" ({ cls := "RankEntry$Op", name := "isFloat", desc := "()Z" } : Jvm.MethodName) ({ cls := "RankEntry$Op", name := "isFloat", desc := "()Z" } : Jvm.MethodName)) ∈ lw_all := lw_g (lw_at lw_m2 77 rfl) rfl
theorem q523 : (Jvm.Cond.selects "RankEntry$Op$19" ({ cls := "RankEntry$Op", name := "does", desc := "(LRankEntry$Core;II)V" } : Jvm.MethodName) ({ cls := "RankEntry$Op$19", name := "does", desc := "(LRankEntry$Core;II)V" } : Jvm.MethodName)) ∈ lw_all := lw_g (lw_at lw_m2 225 rfl) rfl
theorem q524 : (Jvm.Cond.instanceMethod ({ cls := "RankEntry$Op$19", name := "does", desc := "(LRankEntry$Core;II)V" } : Jvm.MethodName)) ∈ lw_all := lw_g (lw_at lw_m2 226 rfl) rfl
theorem q525 : (Jvm.Cond.code ({ cls := "RankEntry$Op$19", name := "does", desc := "(LRankEntry$Core;II)V" } : Jvm.MethodName) prog_26_method_2_code (4 : Nat) (Option.none : Option Jvm.ClassFile.FieldType)) ∈ lw_all := lw_g (lw_at lw_m2 227 rfl) rfl
theorem q919 : (Jvm.Cond.fieldLinkNest "RankEntry$Op$19" (7 : Nat) "RankEntry$Core" "asleep" "Z" "RankEntry") ∈ lw_tbl := lw_at lw_m4 141 rfl
theorem q1326 : (Jvm.Cond.selects "RankEntry$Op$19" ({ cls := "RankEntry$Op", name := "stops", desc := "()Z" } : Jvm.MethodName) ({ cls := "RankEntry$Op$19", name := "stops", desc := "()Z" } : Jvm.MethodName)) ∈ lw_all := lw_g (lw_at lw_m6 68 rfl) rfl
theorem q1327 : (Jvm.Cond.instanceMethod ({ cls := "RankEntry$Op$19", name := "stops", desc := "()Z" } : Jvm.MethodName)) ∈ lw_all := lw_g (lw_at lw_m6 69 rfl) rfl
theorem q1328 : (Jvm.Cond.code ({ cls := "RankEntry$Op$19", name := "stops", desc := "()Z" } : Jvm.MethodName) prog_26_method_3_code (1 : Nat) (Option.some Jvm.ClassFile.FieldType.boolean)) ∈ lw_all := lw_g (lw_at lw_m6 70 rfl) rfl
theorem q1361 : (Jvm.Cond.selects "RankEntry$Op$19" ({ cls := "RankEntry$Op", name := "ways", desc := "()I" } : Jvm.MethodName) ({ cls := "RankEntry$Op", name := "ways", desc := "()I" } : Jvm.MethodName)) ∈ lw_all := lw_g (lw_at lw_m6 103 rfl) rfl
theorem q1398 : (Jvm.Cond.selects "RankEntry$Op$19" ({ cls := "RankEntry$Op", name := "goesOn", desc := "()Z" } : Jvm.MethodName) ({ cls := "RankEntry$Op", name := "goesOn", desc := "()Z" } : Jvm.MethodName)) ∈ lw_all := lw_g (lw_at lw_m6 140 rfl) rfl
theorem q1437 : (Jvm.Cond.selects "RankEntry$Op$19" ({ cls := "RankEntry$Op", name := "jumps", desc := "()Z" } : Jvm.MethodName) ({ cls := "RankEntry$Op", name := "jumps", desc := "()Z" } : Jvm.MethodName)) ∈ lw_all := lw_g (lw_at lw_m6 179 rfl) rfl
theorem q1483 : (Jvm.Cond.selects "RankEntry$Op$19" ({ cls := "RankEntry$Op", name := "pushes", desc := "()I" } : Jvm.MethodName) ({ cls := "RankEntry$Op", name := "pushes", desc := "()I" } : Jvm.MethodName)) ∈ lw_all := lw_g (lw_at lw_m6 225 rfl) rfl
theorem q2183 : (Jvm.Cond.castable "RankEntry$Op$19" "java/lang/Object") ∈ lw_tbl := lw_at lw_m9 205 rfl
theorem q2230 : (Jvm.Cond.castable "RankEntry$Op$19" "RankEntry$Op") ∈ lw_tbl := lw_at lw_m10 12 rfl
/-! RankEntry$Op$2 -/
set_option maxRecDepth 100000
def RX29 : String := "RankEntry$Op$2"
abbrev cX29_does : ByteArray := prog_27_method_2_code
def yX29_does : MethodName := ⟨RX29, "does", "(LRankEntry$Core;II)V"⟩
def dkwX29_does_0 : List UInt8 := [43, 28, 43, 28, 182, 0, 7, 43, 29, 182, 0, 7, 96, 182, 0, 13, 177]
abbrev dktX29_does_0 : List UInt8 := dkwX29_does_0 ++ []
theorem dksX29_does_0 : cX29_does.data.toList.drop 0 = dktX29_does_0 := by decide +kernel
theorem dX29_does_0 : decode cX29_does 0 = .ok (.aload_n 1, 1) := dk_43 (dk_at dksX29_does_0 0 rfl rfl)
theorem dX29_does_1 : decode cX29_does 1 = .ok (.iload_n 2, 1) := dk_28 (dk_at dksX29_does_0 1 rfl rfl)
theorem dX29_does_2 : decode cX29_does 2 = .ok (.aload_n 1, 1) := dk_43 (dk_at dksX29_does_0 2 rfl rfl)
theorem dX29_does_3 : decode cX29_does 3 = .ok (.iload_n 2, 1) := dk_28 (dk_at dksX29_does_0 3 rfl rfl)
theorem dX29_does_4 : decode cX29_does 4 = .ok (.invokevirtual 7, 3) := dk_182 0 7 (dk_at dksX29_does_0 4 rfl rfl)
theorem dX29_does_7 : decode cX29_does 7 = .ok (.aload_n 1, 1) := dk_43 (dk_at dksX29_does_0 7 rfl rfl)
theorem dX29_does_8 : decode cX29_does 8 = .ok (.iload_n 3, 1) := dk_29 (dk_at dksX29_does_0 8 rfl rfl)
theorem dX29_does_9 : decode cX29_does 9 = .ok (.invokevirtual 7, 3) := dk_182 0 7 (dk_at dksX29_does_0 9 rfl rfl)
theorem dX29_does_12 : decode cX29_does 12 = .ok (.iadd, 1) := dk_96 (dk_at dksX29_does_0 12 rfl rfl)
theorem dX29_does_13 : decode cX29_does 13 = .ok (.invokevirtual 13, 3) := dk_182 0 13 (dk_at dksX29_does_0 13 rfl rfl)
theorem dX29_does_16 : decode cX29_does 16 = .ok (.return_, 1) := dk_177 (dk_at dksX29_does_0 16 rfl rfl)
theorem q376 : (Jvm.Cond.selects "RankEntry$Op$2" ({ cls := "RankEntry$Op", name := "isFloat", desc := "()Z" } : Jvm.MethodName) ({ cls := "RankEntry$Op", name := "isFloat", desc := "()Z" } : Jvm.MethodName)) ∈ lw_all := lw_g (lw_at lw_m2 78 rfl) rfl
theorem q526 : (Jvm.Cond.selects "RankEntry$Op$2" ({ cls := "RankEntry$Op", name := "does", desc := "(LRankEntry$Core;II)V" } : Jvm.MethodName) ({ cls := "RankEntry$Op$2", name := "does", desc := "(LRankEntry$Core;II)V" } : Jvm.MethodName)) ∈ lw_all := lw_g (lw_at lw_m2 228 rfl) rfl
theorem q527 : (Jvm.Cond.instanceMethod ({ cls := "RankEntry$Op$2", name := "does", desc := "(LRankEntry$Core;II)V" } : Jvm.MethodName)) ∈ lw_all := lw_g (lw_at lw_m2 229 rfl) rfl
theorem q528 : (Jvm.Cond.code ({ cls := "RankEntry$Op$2", name := "does", desc := "(LRankEntry$Core;II)V" } : Jvm.MethodName) prog_27_method_2_code (4 : Nat) (Option.none : Option Jvm.ClassFile.FieldType)) ∈ lw_all := lw_g (lw_at lw_m2 230 rfl) rfl
theorem q529 : (Jvm.Cond.methodLink "RankEntry$Op$2" (7 : Nat) ({ cls := "RankEntry$Core", name := "reg", desc := "(I)I" } : Jvm.MethodName)) ∈ lw_all := lw_g (lw_at lw_m2 231 rfl) rfl
theorem q533 : (Jvm.Cond.methodLink "RankEntry$Op$2" (13 : Nat) ({ cls := "RankEntry$Core", name := "comes", desc := "(II)V" } : Jvm.MethodName)) ∈ lw_all := lw_g (lw_at lw_m2 235 rfl) rfl
theorem q1329 : (Jvm.Cond.selects "RankEntry$Op$2" ({ cls := "RankEntry$Op", name := "stops", desc := "()Z" } : Jvm.MethodName) ({ cls := "RankEntry$Op", name := "stops", desc := "()Z" } : Jvm.MethodName)) ∈ lw_all := lw_g (lw_at lw_m6 71 rfl) rfl
theorem q1362 : (Jvm.Cond.selects "RankEntry$Op$2" ({ cls := "RankEntry$Op", name := "ways", desc := "()I" } : Jvm.MethodName) ({ cls := "RankEntry$Op", name := "ways", desc := "()I" } : Jvm.MethodName)) ∈ lw_all := lw_g (lw_at lw_m6 104 rfl) rfl
theorem q1399 : (Jvm.Cond.selects "RankEntry$Op$2" ({ cls := "RankEntry$Op", name := "goesOn", desc := "()Z" } : Jvm.MethodName) ({ cls := "RankEntry$Op", name := "goesOn", desc := "()Z" } : Jvm.MethodName)) ∈ lw_all := lw_g (lw_at lw_m6 141 rfl) rfl
theorem q1438 : (Jvm.Cond.selects "RankEntry$Op$2" ({ cls := "RankEntry$Op", name := "jumps", desc := "()Z" } : Jvm.MethodName) ({ cls := "RankEntry$Op", name := "jumps", desc := "()Z" } : Jvm.MethodName)) ∈ lw_all := lw_g (lw_at lw_m6 180 rfl) rfl
theorem q1484 : (Jvm.Cond.selects "RankEntry$Op$2" ({ cls := "RankEntry$Op", name := "pushes", desc := "()I" } : Jvm.MethodName) ({ cls := "RankEntry$Op", name := "pushes", desc := "()I" } : Jvm.MethodName)) ∈ lw_all := lw_g (lw_at lw_m6 226 rfl) rfl
theorem q2166 : (Jvm.Cond.castable "RankEntry$Op$2" "java/lang/Object") ∈ lw_tbl := lw_at lw_m9 188 rfl
theorem q2213 : (Jvm.Cond.castable "RankEntry$Op$2" "RankEntry$Op") ∈ lw_tbl := lw_at lw_m9 235 rfl
/-! RankEntry$Op$20 -/
set_option maxRecDepth 100000
def RX30 : String := "RankEntry$Op$20"
abbrev cX30_isFloat : ByteArray := prog_28_method_3_code
def yX30_isFloat : MethodName := ⟨RX30, "isFloat", "()Z"⟩
theorem dX30_isFloat_0 : decode cX30_isFloat 0 = .ok (.iconst 1, 1) := by decide +kernel
theorem dX30_isFloat_1 : decode cX30_isFloat 1 = .ok (.ireturn, 1) := by decide +kernel
abbrev cX30_does : ByteArray := prog_28_method_2_code
def yX30_does : MethodName := ⟨RX30, "does", "(LRankEntry$Core;II)V"⟩
def dkwX30_does_0 : List UInt8 := [43, 28, 29, 134, 18, 7, 110, 182, 0, 8, 177]
abbrev dktX30_does_0 : List UInt8 := dkwX30_does_0 ++ []
theorem dksX30_does_0 : cX30_does.data.toList.drop 0 = dktX30_does_0 := by decide +kernel
theorem dX30_does_0 : decode cX30_does 0 = .ok (.aload_n 1, 1) := dk_43 (dk_at dksX30_does_0 0 rfl rfl)
theorem dX30_does_1 : decode cX30_does 1 = .ok (.iload_n 2, 1) := dk_28 (dk_at dksX30_does_0 1 rfl rfl)
theorem dX30_does_2 : decode cX30_does 2 = .ok (.iload_n 3, 1) := dk_29 (dk_at dksX30_does_0 2 rfl rfl)
theorem dX30_does_3 : decode cX30_does 3 = .ok (.i2f, 1) := dk_134 (dk_at dksX30_does_0 3 rfl rfl)
theorem dX30_does_4 : decode cX30_does 4 = .ok (.ldc 7, 2) := dk_18 7 (dk_at dksX30_does_0 4 rfl rfl)
theorem dX30_does_6 : decode cX30_does 6 = .ok (.fdiv, 1) := dk_110 (dk_at dksX30_does_0 6 rfl rfl)
theorem dX30_does_7 : decode cX30_does 7 = .ok (.invokevirtual 8, 3) := dk_182 0 8 (dk_at dksX30_does_0 7 rfl rfl)
theorem dX30_does_10 : decode cX30_does 10 = .ok (.return_, 1) := dk_177 (dk_at dksX30_does_0 10 rfl rfl)
theorem q377 : (Jvm.Cond.selects "RankEntry$Op$20" ({ cls := "RankEntry$Op", name := "isFloat", desc := "()Z" } : Jvm.MethodName) ({ cls := "RankEntry$Op$20", name := "isFloat", desc := "()Z" } : Jvm.MethodName)) ∈ lw_all := lw_g (lw_at lw_m2 79 rfl) rfl
theorem q378 : (Jvm.Cond.instanceMethod ({ cls := "RankEntry$Op$20", name := "isFloat", desc := "()Z" } : Jvm.MethodName)) ∈ lw_all := lw_g (lw_at lw_m2 80 rfl) rfl
theorem q379 : (Jvm.Cond.code ({ cls := "RankEntry$Op$20", name := "isFloat", desc := "()Z" } : Jvm.MethodName) prog_28_method_3_code (1 : Nat) (Option.some Jvm.ClassFile.FieldType.boolean)) ∈ lw_all := lw_g (lw_at lw_m2 81 rfl) rfl
theorem q538 : (Jvm.Cond.selects "RankEntry$Op$20" ({ cls := "RankEntry$Op", name := "does", desc := "(LRankEntry$Core;II)V" } : Jvm.MethodName) ({ cls := "RankEntry$Op$20", name := "does", desc := "(LRankEntry$Core;II)V" } : Jvm.MethodName)) ∈ lw_all := lw_g (lw_at lw_m3 0 rfl) rfl
theorem q539 : (Jvm.Cond.instanceMethod ({ cls := "RankEntry$Op$20", name := "does", desc := "(LRankEntry$Core;II)V" } : Jvm.MethodName)) ∈ lw_all := lw_g (lw_at lw_m3 1 rfl) rfl
theorem q540 : (Jvm.Cond.code ({ cls := "RankEntry$Op$20", name := "does", desc := "(LRankEntry$Core;II)V" } : Jvm.MethodName) prog_28_method_2_code (4 : Nat) (Option.none : Option Jvm.ClassFile.FieldType)) ∈ lw_all := lw_g (lw_at lw_m3 2 rfl) rfl
theorem q541 : (Jvm.Cond.constantFloat "RankEntry$Op$20" (7 : Nat) (1098907648 : UInt32)) ∈ lw_all := lw_g (lw_at lw_m3 3 rfl) rfl
theorem q542 : (Jvm.Cond.methodLink "RankEntry$Op$20" (8 : Nat) ({ cls := "RankEntry$Core", name := "setsFloat", desc := "(IF)V" } : Jvm.MethodName)) ∈ lw_all := lw_g (lw_at lw_m3 4 rfl) rfl
theorem q1330 : (Jvm.Cond.selects "RankEntry$Op$20" ({ cls := "RankEntry$Op", name := "stops", desc := "()Z" } : Jvm.MethodName) ({ cls := "RankEntry$Op", name := "stops", desc := "()Z" } : Jvm.MethodName)) ∈ lw_all := lw_g (lw_at lw_m6 72 rfl) rfl
theorem q1363 : (Jvm.Cond.selects "RankEntry$Op$20" ({ cls := "RankEntry$Op", name := "ways", desc := "()I" } : Jvm.MethodName) ({ cls := "RankEntry$Op", name := "ways", desc := "()I" } : Jvm.MethodName)) ∈ lw_all := lw_g (lw_at lw_m6 105 rfl) rfl
theorem q1400 : (Jvm.Cond.selects "RankEntry$Op$20" ({ cls := "RankEntry$Op", name := "goesOn", desc := "()Z" } : Jvm.MethodName) ({ cls := "RankEntry$Op", name := "goesOn", desc := "()Z" } : Jvm.MethodName)) ∈ lw_all := lw_g (lw_at lw_m6 142 rfl) rfl
theorem q1439 : (Jvm.Cond.selects "RankEntry$Op$20" ({ cls := "RankEntry$Op", name := "jumps", desc := "()Z" } : Jvm.MethodName) ({ cls := "RankEntry$Op", name := "jumps", desc := "()Z" } : Jvm.MethodName)) ∈ lw_all := lw_g (lw_at lw_m6 181 rfl) rfl
theorem q1485 : (Jvm.Cond.selects "RankEntry$Op$20" ({ cls := "RankEntry$Op", name := "pushes", desc := "()I" } : Jvm.MethodName) ({ cls := "RankEntry$Op", name := "pushes", desc := "()I" } : Jvm.MethodName)) ∈ lw_all := lw_g (lw_at lw_m6 227 rfl) rfl
theorem q2184 : (Jvm.Cond.castable "RankEntry$Op$20" "java/lang/Object") ∈ lw_tbl := lw_at lw_m9 206 rfl
theorem q2231 : (Jvm.Cond.castable "RankEntry$Op$20" "RankEntry$Op") ∈ lw_tbl := lw_at lw_m10 13 rfl
/-! RankEntry$Op$21 -/
set_option maxRecDepth 100000
def RX31 : String := "RankEntry$Op$21"
abbrev cX31_isFloat : ByteArray := prog_29_method_3_code
def yX31_isFloat : MethodName := ⟨RX31, "isFloat", "()Z"⟩
theorem dX31_isFloat_0 : decode cX31_isFloat 0 = .ok (.iconst 1, 1) := by decide +kernel
theorem dX31_isFloat_1 : decode cX31_isFloat 1 = .ok (.ireturn, 1) := by decide +kernel
abbrev cX31_does : ByteArray := prog_29_method_2_code
def yX31_does : MethodName := ⟨RX31, "does", "(LRankEntry$Core;II)V"⟩
def dkwX31_does_0 : List UInt8 := [43, 28, 43, 180, 0, 7, 28, 6, 126, 48, 43, 180, 0, 7, 29, 6, 126, 48, 98, 182, 0, 13, 177]
abbrev dktX31_does_0 : List UInt8 := dkwX31_does_0 ++ []
theorem dksX31_does_0 : cX31_does.data.toList.drop 0 = dktX31_does_0 := by decide +kernel
theorem dX31_does_0 : decode cX31_does 0 = .ok (.aload_n 1, 1) := dk_43 (dk_at dksX31_does_0 0 rfl rfl)
theorem dX31_does_1 : decode cX31_does 1 = .ok (.iload_n 2, 1) := dk_28 (dk_at dksX31_does_0 1 rfl rfl)
theorem dX31_does_2 : decode cX31_does 2 = .ok (.aload_n 1, 1) := dk_43 (dk_at dksX31_does_0 2 rfl rfl)
theorem dX31_does_3 : decode cX31_does 3 = .ok (.getfield 7, 3) := dk_180 0 7 (dk_at dksX31_does_0 3 rfl rfl)
theorem dX31_does_6 : decode cX31_does 6 = .ok (.iload_n 2, 1) := dk_28 (dk_at dksX31_does_0 6 rfl rfl)
theorem dX31_does_7 : decode cX31_does 7 = .ok (.iconst 3, 1) := dk_6 (dk_at dksX31_does_0 7 rfl rfl)
theorem dX31_does_8 : decode cX31_does 8 = .ok (.iand, 1) := dk_126 (dk_at dksX31_does_0 8 rfl rfl)
theorem dX31_does_9 : decode cX31_does 9 = .ok (.faload, 1) := dk_48 (dk_at dksX31_does_0 9 rfl rfl)
theorem dX31_does_10 : decode cX31_does 10 = .ok (.aload_n 1, 1) := dk_43 (dk_at dksX31_does_0 10 rfl rfl)
theorem dX31_does_11 : decode cX31_does 11 = .ok (.getfield 7, 3) := dk_180 0 7 (dk_at dksX31_does_0 11 rfl rfl)
theorem dX31_does_14 : decode cX31_does 14 = .ok (.iload_n 3, 1) := dk_29 (dk_at dksX31_does_0 14 rfl rfl)
theorem dX31_does_15 : decode cX31_does 15 = .ok (.iconst 3, 1) := dk_6 (dk_at dksX31_does_0 15 rfl rfl)
theorem dX31_does_16 : decode cX31_does 16 = .ok (.iand, 1) := dk_126 (dk_at dksX31_does_0 16 rfl rfl)
theorem dX31_does_17 : decode cX31_does 17 = .ok (.faload, 1) := dk_48 (dk_at dksX31_does_0 17 rfl rfl)
theorem dX31_does_18 : decode cX31_does 18 = .ok (.fadd, 1) := dk_98 (dk_at dksX31_does_0 18 rfl rfl)
theorem dX31_does_19 : decode cX31_does 19 = .ok (.invokevirtual 13, 3) := dk_182 0 13 (dk_at dksX31_does_0 19 rfl rfl)
theorem dX31_does_22 : decode cX31_does 22 = .ok (.return_, 1) := dk_177 (dk_at dksX31_does_0 22 rfl rfl)
theorem q380 : (Jvm.Cond.selects "RankEntry$Op$21" ({ cls := "RankEntry$Op", name := "isFloat", desc := "()Z" } : Jvm.MethodName) ({ cls := "RankEntry$Op$21", name := "isFloat", desc := "()Z" } : Jvm.MethodName)) ∈ lw_all := lw_g (lw_at lw_m2 82 rfl) rfl
theorem q381 : (Jvm.Cond.instanceMethod ({ cls := "RankEntry$Op$21", name := "isFloat", desc := "()Z" } : Jvm.MethodName)) ∈ lw_all := lw_g (lw_at lw_m2 83 rfl) rfl
theorem q382 : (Jvm.Cond.code ({ cls := "RankEntry$Op$21", name := "isFloat", desc := "()Z" } : Jvm.MethodName) prog_29_method_3_code (1 : Nat) (Option.some Jvm.ClassFile.FieldType.boolean)) ∈ lw_all := lw_g (lw_at lw_m2 84 rfl) rfl
theorem q546 : (Jvm.Cond.selects "RankEntry$Op$21" ({ cls := "RankEntry$Op", name := "does", desc := "(LRankEntry$Core;II)V" } : Jvm.MethodName) ({ cls := "RankEntry$Op$21", name := "does", desc := "(LRankEntry$Core;II)V" } : Jvm.MethodName)) ∈ lw_all := lw_g (lw_at lw_m3 8 rfl) rfl
theorem q547 : (Jvm.Cond.instanceMethod ({ cls := "RankEntry$Op$21", name := "does", desc := "(LRankEntry$Core;II)V" } : Jvm.MethodName)) ∈ lw_all := lw_g (lw_at lw_m3 9 rfl) rfl
theorem q548 : (Jvm.Cond.code ({ cls := "RankEntry$Op$21", name := "does", desc := "(LRankEntry$Core;II)V" } : Jvm.MethodName) prog_29_method_2_code (4 : Nat) (Option.none : Option Jvm.ClassFile.FieldType)) ∈ lw_all := lw_g (lw_at lw_m3 10 rfl) rfl
theorem q549 : (Jvm.Cond.methodLink "RankEntry$Op$21" (13 : Nat) ({ cls := "RankEntry$Core", name := "comesFloat", desc := "(IF)V" } : Jvm.MethodName)) ∈ lw_all := lw_g (lw_at lw_m3 11 rfl) rfl
theorem q836 : (Jvm.Cond.fieldLinkNest "RankEntry$Op$21" (7 : Nat) "RankEntry$Core" "f" "[F" "RankEntry") ∈ lw_tbl := lw_at lw_m4 58 rfl
theorem q1331 : (Jvm.Cond.selects "RankEntry$Op$21" ({ cls := "RankEntry$Op", name := "stops", desc := "()Z" } : Jvm.MethodName) ({ cls := "RankEntry$Op", name := "stops", desc := "()Z" } : Jvm.MethodName)) ∈ lw_all := lw_g (lw_at lw_m6 73 rfl) rfl
theorem q1364 : (Jvm.Cond.selects "RankEntry$Op$21" ({ cls := "RankEntry$Op", name := "ways", desc := "()I" } : Jvm.MethodName) ({ cls := "RankEntry$Op", name := "ways", desc := "()I" } : Jvm.MethodName)) ∈ lw_all := lw_g (lw_at lw_m6 106 rfl) rfl
theorem q1401 : (Jvm.Cond.selects "RankEntry$Op$21" ({ cls := "RankEntry$Op", name := "goesOn", desc := "()Z" } : Jvm.MethodName) ({ cls := "RankEntry$Op", name := "goesOn", desc := "()Z" } : Jvm.MethodName)) ∈ lw_all := lw_g (lw_at lw_m6 143 rfl) rfl
theorem q1440 : (Jvm.Cond.selects "RankEntry$Op$21" ({ cls := "RankEntry$Op", name := "jumps", desc := "()Z" } : Jvm.MethodName) ({ cls := "RankEntry$Op", name := "jumps", desc := "()Z" } : Jvm.MethodName)) ∈ lw_all := lw_g (lw_at lw_m6 182 rfl) rfl
theorem q1486 : (Jvm.Cond.selects "RankEntry$Op$21" ({ cls := "RankEntry$Op", name := "pushes", desc := "()I" } : Jvm.MethodName) ({ cls := "RankEntry$Op", name := "pushes", desc := "()I" } : Jvm.MethodName)) ∈ lw_all := lw_g (lw_at lw_m6 228 rfl) rfl
theorem q2185 : (Jvm.Cond.castable "RankEntry$Op$21" "java/lang/Object") ∈ lw_tbl := lw_at lw_m9 207 rfl
theorem q2232 : (Jvm.Cond.castable "RankEntry$Op$21" "RankEntry$Op") ∈ lw_tbl := lw_at lw_m10 14 rfl
/-! RankEntry$Op$22 -/
set_option maxRecDepth 100000
def RX32 : String := "RankEntry$Op$22"
abbrev cX32_isFloat : ByteArray := prog_30_method_3_code
def yX32_isFloat : MethodName := ⟨RX32, "isFloat", "()Z"⟩
theorem dX32_isFloat_0 : decode cX32_isFloat 0 = .ok (.iconst 1, 1) := by decide +kernel
theorem dX32_isFloat_1 : decode cX32_isFloat 1 = .ok (.ireturn, 1) := by decide +kernel
abbrev cX32_does : ByteArray := prog_30_method_2_code
def yX32_does : MethodName := ⟨RX32, "does", "(LRankEntry$Core;II)V"⟩
def dkwX32_does_0 : List UInt8 := [43, 28, 43, 180, 0, 7, 28, 6, 126, 48, 43, 180, 0, 7, 29, 6, 126, 48, 106, 182, 0, 13, 177]
abbrev dktX32_does_0 : List UInt8 := dkwX32_does_0 ++ []
theorem dksX32_does_0 : cX32_does.data.toList.drop 0 = dktX32_does_0 := by decide +kernel
theorem dX32_does_0 : decode cX32_does 0 = .ok (.aload_n 1, 1) := dk_43 (dk_at dksX32_does_0 0 rfl rfl)
theorem dX32_does_1 : decode cX32_does 1 = .ok (.iload_n 2, 1) := dk_28 (dk_at dksX32_does_0 1 rfl rfl)
theorem dX32_does_2 : decode cX32_does 2 = .ok (.aload_n 1, 1) := dk_43 (dk_at dksX32_does_0 2 rfl rfl)
theorem dX32_does_3 : decode cX32_does 3 = .ok (.getfield 7, 3) := dk_180 0 7 (dk_at dksX32_does_0 3 rfl rfl)
theorem dX32_does_6 : decode cX32_does 6 = .ok (.iload_n 2, 1) := dk_28 (dk_at dksX32_does_0 6 rfl rfl)
theorem dX32_does_7 : decode cX32_does 7 = .ok (.iconst 3, 1) := dk_6 (dk_at dksX32_does_0 7 rfl rfl)
theorem dX32_does_8 : decode cX32_does 8 = .ok (.iand, 1) := dk_126 (dk_at dksX32_does_0 8 rfl rfl)
theorem dX32_does_9 : decode cX32_does 9 = .ok (.faload, 1) := dk_48 (dk_at dksX32_does_0 9 rfl rfl)
theorem dX32_does_10 : decode cX32_does 10 = .ok (.aload_n 1, 1) := dk_43 (dk_at dksX32_does_0 10 rfl rfl)
theorem dX32_does_11 : decode cX32_does 11 = .ok (.getfield 7, 3) := dk_180 0 7 (dk_at dksX32_does_0 11 rfl rfl)
theorem dX32_does_14 : decode cX32_does 14 = .ok (.iload_n 3, 1) := dk_29 (dk_at dksX32_does_0 14 rfl rfl)
theorem dX32_does_15 : decode cX32_does 15 = .ok (.iconst 3, 1) := dk_6 (dk_at dksX32_does_0 15 rfl rfl)
theorem dX32_does_16 : decode cX32_does 16 = .ok (.iand, 1) := dk_126 (dk_at dksX32_does_0 16 rfl rfl)
theorem dX32_does_17 : decode cX32_does 17 = .ok (.faload, 1) := dk_48 (dk_at dksX32_does_0 17 rfl rfl)
theorem dX32_does_18 : decode cX32_does 18 = .ok (.fmul, 1) := dk_106 (dk_at dksX32_does_0 18 rfl rfl)
theorem dX32_does_19 : decode cX32_does 19 = .ok (.invokevirtual 13, 3) := dk_182 0 13 (dk_at dksX32_does_0 19 rfl rfl)
theorem dX32_does_22 : decode cX32_does 22 = .ok (.return_, 1) := dk_177 (dk_at dksX32_does_0 22 rfl rfl)
theorem q383 : (Jvm.Cond.selects "RankEntry$Op$22" ({ cls := "RankEntry$Op", name := "isFloat", desc := "()Z" } : Jvm.MethodName) ({ cls := "RankEntry$Op$22", name := "isFloat", desc := "()Z" } : Jvm.MethodName)) ∈ lw_all := lw_g (lw_at lw_m2 85 rfl) rfl
theorem q384 : (Jvm.Cond.instanceMethod ({ cls := "RankEntry$Op$22", name := "isFloat", desc := "()Z" } : Jvm.MethodName)) ∈ lw_all := lw_g (lw_at lw_m2 86 rfl) rfl
theorem q385 : (Jvm.Cond.code ({ cls := "RankEntry$Op$22", name := "isFloat", desc := "()Z" } : Jvm.MethodName) prog_30_method_3_code (1 : Nat) (Option.some Jvm.ClassFile.FieldType.boolean)) ∈ lw_all := lw_g (lw_at lw_m2 87 rfl) rfl
theorem q556 : (Jvm.Cond.selects "RankEntry$Op$22" ({ cls := "RankEntry$Op", name := "does", desc := "(LRankEntry$Core;II)V" } : Jvm.MethodName) ({ cls := "RankEntry$Op$22", name := "does", desc := "(LRankEntry$Core;II)V" } : Jvm.MethodName)) ∈ lw_all := lw_g (lw_at lw_m3 18 rfl) rfl
theorem q557 : (Jvm.Cond.instanceMethod ({ cls := "RankEntry$Op$22", name := "does", desc := "(LRankEntry$Core;II)V" } : Jvm.MethodName)) ∈ lw_all := lw_g (lw_at lw_m3 19 rfl) rfl
theorem q558 : (Jvm.Cond.code ({ cls := "RankEntry$Op$22", name := "does", desc := "(LRankEntry$Core;II)V" } : Jvm.MethodName) prog_30_method_2_code (4 : Nat) (Option.none : Option Jvm.ClassFile.FieldType)) ∈ lw_all := lw_g (lw_at lw_m3 20 rfl) rfl
theorem q559 : (Jvm.Cond.methodLink "RankEntry$Op$22" (13 : Nat) ({ cls := "RankEntry$Core", name := "comesFloat", desc := "(IF)V" } : Jvm.MethodName)) ∈ lw_all := lw_g (lw_at lw_m3 21 rfl) rfl
theorem q837 : (Jvm.Cond.fieldLinkNest "RankEntry$Op$22" (7 : Nat) "RankEntry$Core" "f" "[F" "RankEntry") ∈ lw_tbl := lw_at lw_m4 59 rfl
theorem q1332 : (Jvm.Cond.selects "RankEntry$Op$22" ({ cls := "RankEntry$Op", name := "stops", desc := "()Z" } : Jvm.MethodName) ({ cls := "RankEntry$Op", name := "stops", desc := "()Z" } : Jvm.MethodName)) ∈ lw_all := lw_g (lw_at lw_m6 74 rfl) rfl
theorem q1365 : (Jvm.Cond.selects "RankEntry$Op$22" ({ cls := "RankEntry$Op", name := "ways", desc := "()I" } : Jvm.MethodName) ({ cls := "RankEntry$Op", name := "ways", desc := "()I" } : Jvm.MethodName)) ∈ lw_all := lw_g (lw_at lw_m6 107 rfl) rfl
theorem q1402 : (Jvm.Cond.selects "RankEntry$Op$22" ({ cls := "RankEntry$Op", name := "goesOn", desc := "()Z" } : Jvm.MethodName) ({ cls := "RankEntry$Op", name := "goesOn", desc := "()Z" } : Jvm.MethodName)) ∈ lw_all := lw_g (lw_at lw_m6 144 rfl) rfl
theorem q1441 : (Jvm.Cond.selects "RankEntry$Op$22" ({ cls := "RankEntry$Op", name := "jumps", desc := "()Z" } : Jvm.MethodName) ({ cls := "RankEntry$Op", name := "jumps", desc := "()Z" } : Jvm.MethodName)) ∈ lw_all := lw_g (lw_at lw_m6 183 rfl) rfl
theorem q1487 : (Jvm.Cond.selects "RankEntry$Op$22" ({ cls := "RankEntry$Op", name := "pushes", desc := "()I" } : Jvm.MethodName) ({ cls := "RankEntry$Op", name := "pushes", desc := "()I" } : Jvm.MethodName)) ∈ lw_all := lw_g (lw_at lw_m6 229 rfl) rfl
theorem q2186 : (Jvm.Cond.castable "RankEntry$Op$22" "java/lang/Object") ∈ lw_tbl := lw_at lw_m9 208 rfl
theorem q2233 : (Jvm.Cond.castable "RankEntry$Op$22" "RankEntry$Op") ∈ lw_tbl := lw_at lw_m10 15 rfl
/-! RankEntry$Op$23 -/
set_option maxRecDepth 100000
def RX33 : String := "RankEntry$Op$23"
abbrev cX33_isFloat : ByteArray := prog_31_method_3_code
def yX33_isFloat : MethodName := ⟨RX33, "isFloat", "()Z"⟩
theorem dX33_isFloat_0 : decode cX33_isFloat 0 = .ok (.iconst 1, 1) := by decide +kernel
theorem dX33_isFloat_1 : decode cX33_isFloat 1 = .ok (.ireturn, 1) := by decide +kernel
abbrev cX33_does : ByteArray := prog_31_method_2_code
def yX33_does : MethodName := ⟨RX33, "does", "(LRankEntry$Core;II)V"⟩
def dkwX33_does_0 : List UInt8 := [43, 28, 43, 180, 0, 7, 29, 6, 126, 48, 139, 182, 0, 13, 177]
abbrev dktX33_does_0 : List UInt8 := dkwX33_does_0 ++ []
theorem dksX33_does_0 : cX33_does.data.toList.drop 0 = dktX33_does_0 := by decide +kernel
theorem dX33_does_0 : decode cX33_does 0 = .ok (.aload_n 1, 1) := dk_43 (dk_at dksX33_does_0 0 rfl rfl)
theorem dX33_does_1 : decode cX33_does 1 = .ok (.iload_n 2, 1) := dk_28 (dk_at dksX33_does_0 1 rfl rfl)
theorem dX33_does_2 : decode cX33_does 2 = .ok (.aload_n 1, 1) := dk_43 (dk_at dksX33_does_0 2 rfl rfl)
theorem dX33_does_3 : decode cX33_does 3 = .ok (.getfield 7, 3) := dk_180 0 7 (dk_at dksX33_does_0 3 rfl rfl)
theorem dX33_does_6 : decode cX33_does 6 = .ok (.iload_n 3, 1) := dk_29 (dk_at dksX33_does_0 6 rfl rfl)
theorem dX33_does_7 : decode cX33_does 7 = .ok (.iconst 3, 1) := dk_6 (dk_at dksX33_does_0 7 rfl rfl)
theorem dX33_does_8 : decode cX33_does 8 = .ok (.iand, 1) := dk_126 (dk_at dksX33_does_0 8 rfl rfl)
theorem dX33_does_9 : decode cX33_does 9 = .ok (.faload, 1) := dk_48 (dk_at dksX33_does_0 9 rfl rfl)
theorem dX33_does_10 : decode cX33_does 10 = .ok (.f2i, 1) := dk_139 (dk_at dksX33_does_0 10 rfl rfl)
theorem dX33_does_11 : decode cX33_does 11 = .ok (.invokevirtual 13, 3) := dk_182 0 13 (dk_at dksX33_does_0 11 rfl rfl)
theorem dX33_does_14 : decode cX33_does 14 = .ok (.return_, 1) := dk_177 (dk_at dksX33_does_0 14 rfl rfl)
theorem q386 : (Jvm.Cond.selects "RankEntry$Op$23" ({ cls := "RankEntry$Op", name := "isFloat", desc := "()Z" } : Jvm.MethodName) ({ cls := "RankEntry$Op$23", name := "isFloat", desc := "()Z" } : Jvm.MethodName)) ∈ lw_all := lw_g (lw_at lw_m2 88 rfl) rfl
theorem q387 : (Jvm.Cond.instanceMethod ({ cls := "RankEntry$Op$23", name := "isFloat", desc := "()Z" } : Jvm.MethodName)) ∈ lw_all := lw_g (lw_at lw_m2 89 rfl) rfl
theorem q388 : (Jvm.Cond.code ({ cls := "RankEntry$Op$23", name := "isFloat", desc := "()Z" } : Jvm.MethodName) prog_31_method_3_code (1 : Nat) (Option.some Jvm.ClassFile.FieldType.boolean)) ∈ lw_all := lw_g (lw_at lw_m2 90 rfl) rfl
theorem q560 : (Jvm.Cond.selects "RankEntry$Op$23" ({ cls := "RankEntry$Op", name := "does", desc := "(LRankEntry$Core;II)V" } : Jvm.MethodName) ({ cls := "RankEntry$Op$23", name := "does", desc := "(LRankEntry$Core;II)V" } : Jvm.MethodName)) ∈ lw_all := lw_g (lw_at lw_m3 22 rfl) rfl
theorem q561 : (Jvm.Cond.instanceMethod ({ cls := "RankEntry$Op$23", name := "does", desc := "(LRankEntry$Core;II)V" } : Jvm.MethodName)) ∈ lw_all := lw_g (lw_at lw_m3 23 rfl) rfl
theorem q562 : (Jvm.Cond.code ({ cls := "RankEntry$Op$23", name := "does", desc := "(LRankEntry$Core;II)V" } : Jvm.MethodName) prog_31_method_2_code (4 : Nat) (Option.none : Option Jvm.ClassFile.FieldType)) ∈ lw_all := lw_g (lw_at lw_m3 24 rfl) rfl
theorem q563 : (Jvm.Cond.methodLink "RankEntry$Op$23" (13 : Nat) ({ cls := "RankEntry$Core", name := "sets", desc := "(II)V" } : Jvm.MethodName)) ∈ lw_all := lw_g (lw_at lw_m3 25 rfl) rfl
theorem q838 : (Jvm.Cond.fieldLinkNest "RankEntry$Op$23" (7 : Nat) "RankEntry$Core" "f" "[F" "RankEntry") ∈ lw_tbl := lw_at lw_m4 60 rfl
theorem q1333 : (Jvm.Cond.selects "RankEntry$Op$23" ({ cls := "RankEntry$Op", name := "stops", desc := "()Z" } : Jvm.MethodName) ({ cls := "RankEntry$Op", name := "stops", desc := "()Z" } : Jvm.MethodName)) ∈ lw_all := lw_g (lw_at lw_m6 75 rfl) rfl
theorem q1366 : (Jvm.Cond.selects "RankEntry$Op$23" ({ cls := "RankEntry$Op", name := "ways", desc := "()I" } : Jvm.MethodName) ({ cls := "RankEntry$Op", name := "ways", desc := "()I" } : Jvm.MethodName)) ∈ lw_all := lw_g (lw_at lw_m6 108 rfl) rfl
theorem q1403 : (Jvm.Cond.selects "RankEntry$Op$23" ({ cls := "RankEntry$Op", name := "goesOn", desc := "()Z" } : Jvm.MethodName) ({ cls := "RankEntry$Op", name := "goesOn", desc := "()Z" } : Jvm.MethodName)) ∈ lw_all := lw_g (lw_at lw_m6 145 rfl) rfl
theorem q1442 : (Jvm.Cond.selects "RankEntry$Op$23" ({ cls := "RankEntry$Op", name := "jumps", desc := "()Z" } : Jvm.MethodName) ({ cls := "RankEntry$Op", name := "jumps", desc := "()Z" } : Jvm.MethodName)) ∈ lw_all := lw_g (lw_at lw_m6 184 rfl) rfl
theorem q1488 : (Jvm.Cond.selects "RankEntry$Op$23" ({ cls := "RankEntry$Op", name := "pushes", desc := "()I" } : Jvm.MethodName) ({ cls := "RankEntry$Op", name := "pushes", desc := "()I" } : Jvm.MethodName)) ∈ lw_all := lw_g (lw_at lw_m6 230 rfl) rfl
theorem q2187 : (Jvm.Cond.castable "RankEntry$Op$23" "java/lang/Object") ∈ lw_tbl := lw_at lw_m9 209 rfl
theorem q2234 : (Jvm.Cond.castable "RankEntry$Op$23" "RankEntry$Op") ∈ lw_tbl := lw_at lw_m10 16 rfl
/-! RankEntry$Op$24 -/
set_option maxRecDepth 100000
def RX34 : String := "RankEntry$Op$24"
abbrev cX34_isFloat : ByteArray := prog_32_method_3_code
def yX34_isFloat : MethodName := ⟨RX34, "isFloat", "()Z"⟩
theorem dX34_isFloat_0 : decode cX34_isFloat 0 = .ok (.iconst 1, 1) := by decide +kernel
theorem dX34_isFloat_1 : decode cX34_isFloat 1 = .ok (.ireturn, 1) := by decide +kernel
abbrev cX34_does : ByteArray := prog_32_method_2_code
def yX34_does : MethodName := ⟨RX34, "does", "(LRankEntry$Core;II)V"⟩
def dkwX34_does_0 : List UInt8 := [43, 28, 43, 29, 182, 0, 7, 134, 182, 0, 13, 177]
abbrev dktX34_does_0 : List UInt8 := dkwX34_does_0 ++ []
theorem dksX34_does_0 : cX34_does.data.toList.drop 0 = dktX34_does_0 := by decide +kernel
theorem dX34_does_0 : decode cX34_does 0 = .ok (.aload_n 1, 1) := dk_43 (dk_at dksX34_does_0 0 rfl rfl)
theorem dX34_does_1 : decode cX34_does 1 = .ok (.iload_n 2, 1) := dk_28 (dk_at dksX34_does_0 1 rfl rfl)
theorem dX34_does_2 : decode cX34_does 2 = .ok (.aload_n 1, 1) := dk_43 (dk_at dksX34_does_0 2 rfl rfl)
theorem dX34_does_3 : decode cX34_does 3 = .ok (.iload_n 3, 1) := dk_29 (dk_at dksX34_does_0 3 rfl rfl)
theorem dX34_does_4 : decode cX34_does 4 = .ok (.invokevirtual 7, 3) := dk_182 0 7 (dk_at dksX34_does_0 4 rfl rfl)
theorem dX34_does_7 : decode cX34_does 7 = .ok (.i2f, 1) := dk_134 (dk_at dksX34_does_0 7 rfl rfl)
theorem dX34_does_8 : decode cX34_does 8 = .ok (.invokevirtual 13, 3) := dk_182 0 13 (dk_at dksX34_does_0 8 rfl rfl)
theorem dX34_does_11 : decode cX34_does 11 = .ok (.return_, 1) := dk_177 (dk_at dksX34_does_0 11 rfl rfl)
theorem q389 : (Jvm.Cond.selects "RankEntry$Op$24" ({ cls := "RankEntry$Op", name := "isFloat", desc := "()Z" } : Jvm.MethodName) ({ cls := "RankEntry$Op$24", name := "isFloat", desc := "()Z" } : Jvm.MethodName)) ∈ lw_all := lw_g (lw_at lw_m2 91 rfl) rfl
theorem q390 : (Jvm.Cond.instanceMethod ({ cls := "RankEntry$Op$24", name := "isFloat", desc := "()Z" } : Jvm.MethodName)) ∈ lw_all := lw_g (lw_at lw_m2 92 rfl) rfl
theorem q391 : (Jvm.Cond.code ({ cls := "RankEntry$Op$24", name := "isFloat", desc := "()Z" } : Jvm.MethodName) prog_32_method_3_code (1 : Nat) (Option.some Jvm.ClassFile.FieldType.boolean)) ∈ lw_all := lw_g (lw_at lw_m2 93 rfl) rfl
theorem q564 : (Jvm.Cond.selects "RankEntry$Op$24" ({ cls := "RankEntry$Op", name := "does", desc := "(LRankEntry$Core;II)V" } : Jvm.MethodName) ({ cls := "RankEntry$Op$24", name := "does", desc := "(LRankEntry$Core;II)V" } : Jvm.MethodName)) ∈ lw_all := lw_g (lw_at lw_m3 26 rfl) rfl
theorem q565 : (Jvm.Cond.instanceMethod ({ cls := "RankEntry$Op$24", name := "does", desc := "(LRankEntry$Core;II)V" } : Jvm.MethodName)) ∈ lw_all := lw_g (lw_at lw_m3 27 rfl) rfl
theorem q566 : (Jvm.Cond.code ({ cls := "RankEntry$Op$24", name := "does", desc := "(LRankEntry$Core;II)V" } : Jvm.MethodName) prog_32_method_2_code (4 : Nat) (Option.none : Option Jvm.ClassFile.FieldType)) ∈ lw_all := lw_g (lw_at lw_m3 28 rfl) rfl
theorem q567 : (Jvm.Cond.methodLink "RankEntry$Op$24" (7 : Nat) ({ cls := "RankEntry$Core", name := "reg", desc := "(I)I" } : Jvm.MethodName)) ∈ lw_all := lw_g (lw_at lw_m3 29 rfl) rfl
theorem q568 : (Jvm.Cond.methodLink "RankEntry$Op$24" (13 : Nat) ({ cls := "RankEntry$Core", name := "setsFloat", desc := "(IF)V" } : Jvm.MethodName)) ∈ lw_all := lw_g (lw_at lw_m3 30 rfl) rfl
theorem q1334 : (Jvm.Cond.selects "RankEntry$Op$24" ({ cls := "RankEntry$Op", name := "stops", desc := "()Z" } : Jvm.MethodName) ({ cls := "RankEntry$Op", name := "stops", desc := "()Z" } : Jvm.MethodName)) ∈ lw_all := lw_g (lw_at lw_m6 76 rfl) rfl
theorem q1367 : (Jvm.Cond.selects "RankEntry$Op$24" ({ cls := "RankEntry$Op", name := "ways", desc := "()I" } : Jvm.MethodName) ({ cls := "RankEntry$Op", name := "ways", desc := "()I" } : Jvm.MethodName)) ∈ lw_all := lw_g (lw_at lw_m6 109 rfl) rfl
theorem q1404 : (Jvm.Cond.selects "RankEntry$Op$24" ({ cls := "RankEntry$Op", name := "goesOn", desc := "()Z" } : Jvm.MethodName) ({ cls := "RankEntry$Op", name := "goesOn", desc := "()Z" } : Jvm.MethodName)) ∈ lw_all := lw_g (lw_at lw_m6 146 rfl) rfl
theorem q1443 : (Jvm.Cond.selects "RankEntry$Op$24" ({ cls := "RankEntry$Op", name := "jumps", desc := "()Z" } : Jvm.MethodName) ({ cls := "RankEntry$Op", name := "jumps", desc := "()Z" } : Jvm.MethodName)) ∈ lw_all := lw_g (lw_at lw_m6 185 rfl) rfl
theorem q1489 : (Jvm.Cond.selects "RankEntry$Op$24" ({ cls := "RankEntry$Op", name := "pushes", desc := "()I" } : Jvm.MethodName) ({ cls := "RankEntry$Op", name := "pushes", desc := "()I" } : Jvm.MethodName)) ∈ lw_all := lw_g (lw_at lw_m6 231 rfl) rfl
theorem q2188 : (Jvm.Cond.castable "RankEntry$Op$24" "java/lang/Object") ∈ lw_tbl := lw_at lw_m9 210 rfl
theorem q2235 : (Jvm.Cond.castable "RankEntry$Op$24" "RankEntry$Op") ∈ lw_tbl := lw_at lw_m10 17 rfl
/-! RankEntry$Op$25 -/
set_option maxRecDepth 100000
def RX35 : String := "RankEntry$Op$25"
abbrev cX35_does : ByteArray := prog_33_method_2_code
def yX35_does : MethodName := ⟨RX35, "does", "(LRankEntry$Core;II)V"⟩
def dkwX35_does_1 : List UInt8 := [25, 4, 43, 29, 182, 0, 25, 17, 0, 255, 126, 181, 0, 29, 177]
abbrev dktX35_does_1 : List UInt8 := dkwX35_does_1 ++ []
def dkwX35_does_0 : List UInt8 := [43, 180, 0, 9, 28, 16, 20, 112, 50, 58, 4, 25, 4, 180, 0, 15, 153, 0, 8, 43, 180, 0, 21, 191]
abbrev dktX35_does_0 : List UInt8 := dkwX35_does_0 ++ dktX35_does_1
theorem dksX35_does_0 : cX35_does.data.toList.drop 0 = dktX35_does_0 := by decide +kernel
theorem dksX35_does_1 : cX35_does.data.toList.drop 24 = dktX35_does_1 := dk_seg dksX35_does_0 24 rfl rfl
theorem dX35_does_0 : decode cX35_does 0 = .ok (.aload_n 1, 1) := dk_43 (dk_at dksX35_does_0 0 rfl rfl)
theorem dX35_does_1 : decode cX35_does 1 = .ok (.getfield 9, 3) := dk_180 0 9 (dk_at dksX35_does_0 1 rfl rfl)
theorem dX35_does_4 : decode cX35_does 4 = .ok (.iload_n 2, 1) := dk_28 (dk_at dksX35_does_0 4 rfl rfl)
theorem dX35_does_5 : decode cX35_does 5 = .ok (.bipush 20, 2) := dk_16 20 (dk_at dksX35_does_0 5 rfl rfl)
theorem dX35_does_7 : decode cX35_does 7 = .ok (.irem, 1) := dk_112 (dk_at dksX35_does_0 7 rfl rfl)
theorem dX35_does_8 : decode cX35_does 8 = .ok (.aaload, 1) := dk_50 (dk_at dksX35_does_0 8 rfl rfl)
theorem dX35_does_9 : decode cX35_does 9 = .ok (.astore 4, 2) := dk_58 4 (dk_at dksX35_does_0 9 rfl rfl)
theorem dX35_does_11 : decode cX35_does 11 = .ok (.aload 4, 2) := dk_25 4 (dk_at dksX35_does_0 11 rfl rfl)
theorem dX35_does_13 : decode cX35_does 13 = .ok (.getfield 15, 3) := dk_180 0 15 (dk_at dksX35_does_0 13 rfl rfl)
theorem dX35_does_16 : decode cX35_does 16 = .ok (.ifCond .eq 8, 3) := dk_153 0 8 (dk_at dksX35_does_0 16 rfl rfl)
theorem dX35_does_19 : decode cX35_does 19 = .ok (.aload_n 1, 1) := dk_43 (dk_at dksX35_does_0 19 rfl rfl)
theorem dX35_does_20 : decode cX35_does 20 = .ok (.getfield 21, 3) := dk_180 0 21 (dk_at dksX35_does_0 20 rfl rfl)
theorem dX35_does_23 : decode cX35_does 23 = .ok (.athrow, 1) := dk_191 (dk_at dksX35_does_0 23 rfl rfl)
theorem dX35_does_24 : decode cX35_does 24 = .ok (.aload 4, 2) := dk_25 4 (dk_at dksX35_does_1 0 rfl rfl)
theorem dX35_does_26 : decode cX35_does 26 = .ok (.aload_n 1, 1) := dk_43 (dk_at dksX35_does_1 2 rfl rfl)
theorem dX35_does_27 : decode cX35_does 27 = .ok (.iload_n 3, 1) := dk_29 (dk_at dksX35_does_1 3 rfl rfl)
theorem dX35_does_28 : decode cX35_does 28 = .ok (.invokevirtual 25, 3) := dk_182 0 25 (dk_at dksX35_does_1 4 rfl rfl)
theorem dX35_does_31 : decode cX35_does 31 = .ok (.sipush 255, 3) := dk_17 0 255 (dk_at dksX35_does_1 7 rfl rfl)
theorem dX35_does_34 : decode cX35_does 34 = .ok (.iand, 1) := dk_126 (dk_at dksX35_does_1 10 rfl rfl)
theorem dX35_does_35 : decode cX35_does 35 = .ok (.putfield 29, 3) := dk_181 0 29 (dk_at dksX35_does_1 11 rfl rfl)
theorem dX35_does_38 : decode cX35_does 38 = .ok (.return_, 1) := dk_177 (dk_at dksX35_does_1 14 rfl rfl)
theorem q392 : (Jvm.Cond.selects "RankEntry$Op$25" ({ cls := "RankEntry$Op", name := "isFloat", desc := "()Z" } : Jvm.MethodName) ({ cls := "RankEntry$Op", name := "isFloat", desc := "()Z" } : Jvm.MethodName)) ∈ lw_all := lw_g (lw_at lw_m2 94 rfl) rfl
theorem q569 : (Jvm.Cond.selects "RankEntry$Op$25" ({ cls := "RankEntry$Op", name := "does", desc := "(LRankEntry$Core;II)V" } : Jvm.MethodName) ({ cls := "RankEntry$Op$25", name := "does", desc := "(LRankEntry$Core;II)V" } : Jvm.MethodName)) ∈ lw_all := lw_g (lw_at lw_m3 31 rfl) rfl
theorem q570 : (Jvm.Cond.instanceMethod ({ cls := "RankEntry$Op$25", name := "does", desc := "(LRankEntry$Core;II)V" } : Jvm.MethodName)) ∈ lw_all := lw_g (lw_at lw_m3 32 rfl) rfl
theorem q571 : (Jvm.Cond.code ({ cls := "RankEntry$Op$25", name := "does", desc := "(LRankEntry$Core;II)V" } : Jvm.MethodName) prog_33_method_2_code (5 : Nat) (Option.none : Option Jvm.ClassFile.FieldType)) ∈ lw_all := lw_g (lw_at lw_m3 33 rfl) rfl
theorem q572 : (Jvm.Cond.methodLink "RankEntry$Op$25" (25 : Nat) ({ cls := "RankEntry$Core", name := "reg", desc := "(I)I" } : Jvm.MethodName)) ∈ lw_all := lw_g (lw_at lw_m3 34 rfl) rfl
theorem q736 : (Jvm.Cond.fieldLink "RankEntry$Op$25" (29 : Nat) "RankEntry$Source" "rank" "I") ∈ lw_all := lw_g (lw_at lw_m3 198 rfl) rfl
theorem q749 : (Jvm.Cond.fieldLink "RankEntry$Op$25" (15 : Nat) "RankEntry$Source" "active" "Z") ∈ lw_all := lw_g (lw_at lw_m3 211 rfl) rfl
theorem q830 : (Jvm.Cond.fieldLinkNest "RankEntry$Op$25" (21 : Nat) "RankEntry$Core" "wrong" "LRankEntry$Trap;" "RankEntry") ∈ lw_tbl := lw_at lw_m4 52 rfl
theorem q850 : (Jvm.Cond.fieldLinkNest "RankEntry$Op$25" (9 : Nat) "RankEntry$Core" "all" "[LRankEntry$Source;" "RankEntry") ∈ lw_tbl := lw_at lw_m4 72 rfl
theorem q1335 : (Jvm.Cond.selects "RankEntry$Op$25" ({ cls := "RankEntry$Op", name := "stops", desc := "()Z" } : Jvm.MethodName) ({ cls := "RankEntry$Op", name := "stops", desc := "()Z" } : Jvm.MethodName)) ∈ lw_all := lw_g (lw_at lw_m6 77 rfl) rfl
theorem q1368 : (Jvm.Cond.selects "RankEntry$Op$25" ({ cls := "RankEntry$Op", name := "ways", desc := "()I" } : Jvm.MethodName) ({ cls := "RankEntry$Op", name := "ways", desc := "()I" } : Jvm.MethodName)) ∈ lw_all := lw_g (lw_at lw_m6 110 rfl) rfl
theorem q1405 : (Jvm.Cond.selects "RankEntry$Op$25" ({ cls := "RankEntry$Op", name := "goesOn", desc := "()Z" } : Jvm.MethodName) ({ cls := "RankEntry$Op", name := "goesOn", desc := "()Z" } : Jvm.MethodName)) ∈ lw_all := lw_g (lw_at lw_m6 147 rfl) rfl
theorem q1444 : (Jvm.Cond.selects "RankEntry$Op$25" ({ cls := "RankEntry$Op", name := "jumps", desc := "()Z" } : Jvm.MethodName) ({ cls := "RankEntry$Op", name := "jumps", desc := "()Z" } : Jvm.MethodName)) ∈ lw_all := lw_g (lw_at lw_m6 186 rfl) rfl
theorem q1490 : (Jvm.Cond.selects "RankEntry$Op$25" ({ cls := "RankEntry$Op", name := "pushes", desc := "()I" } : Jvm.MethodName) ({ cls := "RankEntry$Op", name := "pushes", desc := "()I" } : Jvm.MethodName)) ∈ lw_all := lw_g (lw_at lw_m6 232 rfl) rfl
theorem q2189 : (Jvm.Cond.castable "RankEntry$Op$25" "java/lang/Object") ∈ lw_tbl := lw_at lw_m9 211 rfl
theorem q2236 : (Jvm.Cond.castable "RankEntry$Op$25" "RankEntry$Op") ∈ lw_tbl := lw_at lw_m10 18 rfl
/-! RankEntry$Op$26 -/
set_option maxRecDepth 100000
def RX36 : String := "RankEntry$Op$26"
abbrev cX36_does : ByteArray := prog_34_method_2_code
def yX36_does : MethodName := ⟨RX36, "does", "(LRankEntry$Core;II)V"⟩
def dkwX36_does_1 : List UInt8 := [100, 46, 28, 96, 17, 1, 255, 126, 79, 177]
abbrev dktX36_does_1 : List UInt8 := dkwX36_does_1 ++ []
def dkwX36_does_0 : List UInt8 := [43, 5, 182, 0, 9, 43, 180, 0, 15, 43, 180, 0, 19, 5, 100, 43, 180, 0, 15, 43, 180, 0, 19, 5]
abbrev dktX36_does_0 : List UInt8 := dkwX36_does_0 ++ dktX36_does_1
theorem dksX36_does_0 : cX36_does.data.toList.drop 0 = dktX36_does_0 := by decide +kernel
theorem dksX36_does_1 : cX36_does.data.toList.drop 24 = dktX36_does_1 := dk_seg dksX36_does_0 24 rfl rfl
theorem dX36_does_0 : decode cX36_does 0 = .ok (.aload_n 1, 1) := dk_43 (dk_at dksX36_does_0 0 rfl rfl)
theorem dX36_does_1 : decode cX36_does 1 = .ok (.iconst 2, 1) := dk_5 (dk_at dksX36_does_0 1 rfl rfl)
theorem dX36_does_2 : decode cX36_does 2 = .ok (.invokevirtual 9, 3) := dk_182 0 9 (dk_at dksX36_does_0 2 rfl rfl)
theorem dX36_does_5 : decode cX36_does 5 = .ok (.aload_n 1, 1) := dk_43 (dk_at dksX36_does_0 5 rfl rfl)
theorem dX36_does_6 : decode cX36_does 6 = .ok (.getfield 15, 3) := dk_180 0 15 (dk_at dksX36_does_0 6 rfl rfl)
theorem dX36_does_9 : decode cX36_does 9 = .ok (.aload_n 1, 1) := dk_43 (dk_at dksX36_does_0 9 rfl rfl)
theorem dX36_does_10 : decode cX36_does 10 = .ok (.getfield 19, 3) := dk_180 0 19 (dk_at dksX36_does_0 10 rfl rfl)
theorem dX36_does_13 : decode cX36_does 13 = .ok (.iconst 2, 1) := dk_5 (dk_at dksX36_does_0 13 rfl rfl)
theorem dX36_does_14 : decode cX36_does 14 = .ok (.isub, 1) := dk_100 (dk_at dksX36_does_0 14 rfl rfl)
theorem dX36_does_15 : decode cX36_does 15 = .ok (.aload_n 1, 1) := dk_43 (dk_at dksX36_does_0 15 rfl rfl)
theorem dX36_does_16 : decode cX36_does 16 = .ok (.getfield 15, 3) := dk_180 0 15 (dk_at dksX36_does_0 16 rfl rfl)
theorem dX36_does_19 : decode cX36_does 19 = .ok (.aload_n 1, 1) := dk_43 (dk_at dksX36_does_0 19 rfl rfl)
theorem dX36_does_20 : decode cX36_does 20 = .ok (.getfield 19, 3) := dk_180 0 19 (dk_at dksX36_does_0 20 rfl rfl)
theorem dX36_does_23 : decode cX36_does 23 = .ok (.iconst 2, 1) := dk_5 (dk_at dksX36_does_0 23 rfl rfl)
theorem dX36_does_24 : decode cX36_does 24 = .ok (.isub, 1) := dk_100 (dk_at dksX36_does_1 0 rfl rfl)
theorem dX36_does_25 : decode cX36_does 25 = .ok (.iaload, 1) := dk_46 (dk_at dksX36_does_1 1 rfl rfl)
theorem dX36_does_26 : decode cX36_does 26 = .ok (.iload_n 2, 1) := dk_28 (dk_at dksX36_does_1 2 rfl rfl)
theorem dX36_does_27 : decode cX36_does 27 = .ok (.iadd, 1) := dk_96 (dk_at dksX36_does_1 3 rfl rfl)
theorem dX36_does_28 : decode cX36_does 28 = .ok (.sipush 511, 3) := dk_17 1 255 (dk_at dksX36_does_1 4 rfl rfl)
theorem dX36_does_31 : decode cX36_does 31 = .ok (.iand, 1) := dk_126 (dk_at dksX36_does_1 7 rfl rfl)
theorem dX36_does_32 : decode cX36_does 32 = .ok (.iastore, 1) := dk_79 (dk_at dksX36_does_1 8 rfl rfl)
theorem dX36_does_33 : decode cX36_does 33 = .ok (.return_, 1) := dk_177 (dk_at dksX36_does_1 9 rfl rfl)
theorem q393 : (Jvm.Cond.selects "RankEntry$Op$26" ({ cls := "RankEntry$Op", name := "isFloat", desc := "()Z" } : Jvm.MethodName) ({ cls := "RankEntry$Op", name := "isFloat", desc := "()Z" } : Jvm.MethodName)) ∈ lw_all := lw_g (lw_at lw_m2 95 rfl) rfl
theorem q573 : (Jvm.Cond.selects "RankEntry$Op$26" ({ cls := "RankEntry$Op", name := "does", desc := "(LRankEntry$Core;II)V" } : Jvm.MethodName) ({ cls := "RankEntry$Op$26", name := "does", desc := "(LRankEntry$Core;II)V" } : Jvm.MethodName)) ∈ lw_all := lw_g (lw_at lw_m3 35 rfl) rfl
theorem q574 : (Jvm.Cond.instanceMethod ({ cls := "RankEntry$Op$26", name := "does", desc := "(LRankEntry$Core;II)V" } : Jvm.MethodName)) ∈ lw_all := lw_g (lw_at lw_m3 36 rfl) rfl
theorem q575 : (Jvm.Cond.code ({ cls := "RankEntry$Op$26", name := "does", desc := "(LRankEntry$Core;II)V" } : Jvm.MethodName) prog_34_method_2_code (4 : Nat) (Option.none : Option Jvm.ClassFile.FieldType)) ∈ lw_all := lw_g (lw_at lw_m3 37 rfl) rfl
theorem q576 : (Jvm.Cond.methodLink "RankEntry$Op$26" (9 : Nat) ({ cls := "RankEntry$Core", name := "needs", desc := "(I)V" } : Jvm.MethodName)) ∈ lw_all := lw_g (lw_at lw_m3 38 rfl) rfl
theorem q845 : (Jvm.Cond.fieldLinkNest "RankEntry$Op$26" (15 : Nat) "RankEntry$Core" "stack" "[I" "RankEntry") ∈ lw_tbl := lw_at lw_m4 67 rfl
theorem q892 : (Jvm.Cond.fieldLinkNest "RankEntry$Op$26" (19 : Nat) "RankEntry$Core" "sp" "I" "RankEntry") ∈ lw_tbl := lw_at lw_m4 114 rfl
theorem q1336 : (Jvm.Cond.selects "RankEntry$Op$26" ({ cls := "RankEntry$Op", name := "stops", desc := "()Z" } : Jvm.MethodName) ({ cls := "RankEntry$Op", name := "stops", desc := "()Z" } : Jvm.MethodName)) ∈ lw_all := lw_g (lw_at lw_m6 78 rfl) rfl
theorem q1369 : (Jvm.Cond.selects "RankEntry$Op$26" ({ cls := "RankEntry$Op", name := "ways", desc := "()I" } : Jvm.MethodName) ({ cls := "RankEntry$Op", name := "ways", desc := "()I" } : Jvm.MethodName)) ∈ lw_all := lw_g (lw_at lw_m6 111 rfl) rfl
theorem q1406 : (Jvm.Cond.selects "RankEntry$Op$26" ({ cls := "RankEntry$Op", name := "goesOn", desc := "()Z" } : Jvm.MethodName) ({ cls := "RankEntry$Op", name := "goesOn", desc := "()Z" } : Jvm.MethodName)) ∈ lw_all := lw_g (lw_at lw_m6 148 rfl) rfl
theorem q1445 : (Jvm.Cond.selects "RankEntry$Op$26" ({ cls := "RankEntry$Op", name := "jumps", desc := "()Z" } : Jvm.MethodName) ({ cls := "RankEntry$Op", name := "jumps", desc := "()Z" } : Jvm.MethodName)) ∈ lw_all := lw_g (lw_at lw_m6 187 rfl) rfl
theorem q1491 : (Jvm.Cond.selects "RankEntry$Op$26" ({ cls := "RankEntry$Op", name := "pushes", desc := "()I" } : Jvm.MethodName) ({ cls := "RankEntry$Op", name := "pushes", desc := "()I" } : Jvm.MethodName)) ∈ lw_all := lw_g (lw_at lw_m6 233 rfl) rfl
theorem q2190 : (Jvm.Cond.castable "RankEntry$Op$26" "java/lang/Object") ∈ lw_tbl := lw_at lw_m9 212 rfl
theorem q2237 : (Jvm.Cond.castable "RankEntry$Op$26" "RankEntry$Op") ∈ lw_tbl := lw_at lw_m10 19 rfl
/-! RankEntry$Op$27 -/
set_option maxRecDepth 100000
def RX37 : String := "RankEntry$Op$27"
abbrev cX37_does : ByteArray := prog_35_method_2_code
def yX37_does : MethodName := ⟨RX37, "does", "(LRankEntry$Core;II)V"⟩
def dkwX37_does_0 : List UInt8 := [43, 43, 28, 182, 0, 7, 182, 0, 13, 177]
abbrev dktX37_does_0 : List UInt8 := dkwX37_does_0 ++ []
theorem dksX37_does_0 : cX37_does.data.toList.drop 0 = dktX37_does_0 := by decide +kernel
theorem dX37_does_0 : decode cX37_does 0 = .ok (.aload_n 1, 1) := dk_43 (dk_at dksX37_does_0 0 rfl rfl)
theorem dX37_does_1 : decode cX37_does 1 = .ok (.aload_n 1, 1) := dk_43 (dk_at dksX37_does_0 1 rfl rfl)
theorem dX37_does_2 : decode cX37_does 2 = .ok (.iload_n 2, 1) := dk_28 (dk_at dksX37_does_0 2 rfl rfl)
theorem dX37_does_3 : decode cX37_does 3 = .ok (.invokevirtual 7, 3) := dk_182 0 7 (dk_at dksX37_does_0 3 rfl rfl)
theorem dX37_does_6 : decode cX37_does 6 = .ok (.invokevirtual 13, 3) := dk_182 0 13 (dk_at dksX37_does_0 6 rfl rfl)
theorem dX37_does_9 : decode cX37_does 9 = .ok (.return_, 1) := dk_177 (dk_at dksX37_does_0 9 rfl rfl)
theorem q394 : (Jvm.Cond.selects "RankEntry$Op$27" ({ cls := "RankEntry$Op", name := "isFloat", desc := "()Z" } : Jvm.MethodName) ({ cls := "RankEntry$Op", name := "isFloat", desc := "()Z" } : Jvm.MethodName)) ∈ lw_all := lw_g (lw_at lw_m2 96 rfl) rfl
theorem q577 : (Jvm.Cond.selects "RankEntry$Op$27" ({ cls := "RankEntry$Op", name := "does", desc := "(LRankEntry$Core;II)V" } : Jvm.MethodName) ({ cls := "RankEntry$Op$27", name := "does", desc := "(LRankEntry$Core;II)V" } : Jvm.MethodName)) ∈ lw_all := lw_g (lw_at lw_m3 39 rfl) rfl
theorem q578 : (Jvm.Cond.instanceMethod ({ cls := "RankEntry$Op$27", name := "does", desc := "(LRankEntry$Core;II)V" } : Jvm.MethodName)) ∈ lw_all := lw_g (lw_at lw_m3 40 rfl) rfl
theorem q579 : (Jvm.Cond.code ({ cls := "RankEntry$Op$27", name := "does", desc := "(LRankEntry$Core;II)V" } : Jvm.MethodName) prog_35_method_2_code (4 : Nat) (Option.none : Option Jvm.ClassFile.FieldType)) ∈ lw_all := lw_g (lw_at lw_m3 41 rfl) rfl
theorem q580 : (Jvm.Cond.methodLink "RankEntry$Op$27" (7 : Nat) ({ cls := "RankEntry$Core", name := "reg", desc := "(I)I" } : Jvm.MethodName)) ∈ lw_all := lw_g (lw_at lw_m3 42 rfl) rfl
theorem q581 : (Jvm.Cond.methodLink "RankEntry$Op$27" (13 : Nat) ({ cls := "RankEntry$Core", name := "tells", desc := "(I)V" } : Jvm.MethodName)) ∈ lw_all := lw_g (lw_at lw_m3 43 rfl) rfl
theorem q1337 : (Jvm.Cond.selects "RankEntry$Op$27" ({ cls := "RankEntry$Op", name := "stops", desc := "()Z" } : Jvm.MethodName) ({ cls := "RankEntry$Op", name := "stops", desc := "()Z" } : Jvm.MethodName)) ∈ lw_all := lw_g (lw_at lw_m6 79 rfl) rfl
theorem q1370 : (Jvm.Cond.selects "RankEntry$Op$27" ({ cls := "RankEntry$Op", name := "ways", desc := "()I" } : Jvm.MethodName) ({ cls := "RankEntry$Op", name := "ways", desc := "()I" } : Jvm.MethodName)) ∈ lw_all := lw_g (lw_at lw_m6 112 rfl) rfl
theorem q1407 : (Jvm.Cond.selects "RankEntry$Op$27" ({ cls := "RankEntry$Op", name := "goesOn", desc := "()Z" } : Jvm.MethodName) ({ cls := "RankEntry$Op", name := "goesOn", desc := "()Z" } : Jvm.MethodName)) ∈ lw_all := lw_g (lw_at lw_m6 149 rfl) rfl
theorem q1446 : (Jvm.Cond.selects "RankEntry$Op$27" ({ cls := "RankEntry$Op", name := "jumps", desc := "()Z" } : Jvm.MethodName) ({ cls := "RankEntry$Op", name := "jumps", desc := "()Z" } : Jvm.MethodName)) ∈ lw_all := lw_g (lw_at lw_m6 188 rfl) rfl
theorem q1492 : (Jvm.Cond.selects "RankEntry$Op$27" ({ cls := "RankEntry$Op", name := "pushes", desc := "()I" } : Jvm.MethodName) ({ cls := "RankEntry$Op", name := "pushes", desc := "()I" } : Jvm.MethodName)) ∈ lw_all := lw_g (lw_at lw_m6 234 rfl) rfl
theorem q2191 : (Jvm.Cond.castable "RankEntry$Op$27" "java/lang/Object") ∈ lw_tbl := lw_at lw_m9 213 rfl
theorem q2238 : (Jvm.Cond.castable "RankEntry$Op$27" "RankEntry$Op") ∈ lw_tbl := lw_at lw_m10 20 rfl
/-! RankEntry$Op$28 -/
set_option maxRecDepth 100000
def RX38 : String := "RankEntry$Op$28"
abbrev cX38_does : ByteArray := prog_36_method_2_code
def yX38_does : MethodName := ⟨RX38, "does", "(LRankEntry$Core;II)V"⟩
def dkwX38_does_0 : List UInt8 := [43, 28, 43, 180, 0, 9, 29, 16, 15, 126, 46, 182, 0, 15, 177]
abbrev dktX38_does_0 : List UInt8 := dkwX38_does_0 ++ []
theorem dksX38_does_0 : cX38_does.data.toList.drop 0 = dktX38_does_0 := by decide +kernel
theorem dX38_does_0 : decode cX38_does 0 = .ok (.aload_n 1, 1) := dk_43 (dk_at dksX38_does_0 0 rfl rfl)
theorem dX38_does_1 : decode cX38_does 1 = .ok (.iload_n 2, 1) := dk_28 (dk_at dksX38_does_0 1 rfl rfl)
theorem dX38_does_2 : decode cX38_does 2 = .ok (.aload_n 1, 1) := dk_43 (dk_at dksX38_does_0 2 rfl rfl)
theorem dX38_does_3 : decode cX38_does 3 = .ok (.getfield 9, 3) := dk_180 0 9 (dk_at dksX38_does_0 3 rfl rfl)
theorem dX38_does_6 : decode cX38_does 6 = .ok (.iload_n 3, 1) := dk_29 (dk_at dksX38_does_0 6 rfl rfl)
theorem dX38_does_7 : decode cX38_does 7 = .ok (.bipush 15, 2) := dk_16 15 (dk_at dksX38_does_0 7 rfl rfl)
theorem dX38_does_9 : decode cX38_does 9 = .ok (.iand, 1) := dk_126 (dk_at dksX38_does_0 9 rfl rfl)
theorem dX38_does_10 : decode cX38_does 10 = .ok (.iaload, 1) := dk_46 (dk_at dksX38_does_0 10 rfl rfl)
theorem dX38_does_11 : decode cX38_does 11 = .ok (.invokevirtual 15, 3) := dk_182 0 15 (dk_at dksX38_does_0 11 rfl rfl)
theorem dX38_does_14 : decode cX38_does 14 = .ok (.return_, 1) := dk_177 (dk_at dksX38_does_0 14 rfl rfl)
theorem q395 : (Jvm.Cond.selects "RankEntry$Op$28" ({ cls := "RankEntry$Op", name := "isFloat", desc := "()Z" } : Jvm.MethodName) ({ cls := "RankEntry$Op", name := "isFloat", desc := "()Z" } : Jvm.MethodName)) ∈ lw_all := lw_g (lw_at lw_m2 97 rfl) rfl
theorem q585 : (Jvm.Cond.selects "RankEntry$Op$28" ({ cls := "RankEntry$Op", name := "does", desc := "(LRankEntry$Core;II)V" } : Jvm.MethodName) ({ cls := "RankEntry$Op$28", name := "does", desc := "(LRankEntry$Core;II)V" } : Jvm.MethodName)) ∈ lw_all := lw_g (lw_at lw_m3 47 rfl) rfl
theorem q586 : (Jvm.Cond.instanceMethod ({ cls := "RankEntry$Op$28", name := "does", desc := "(LRankEntry$Core;II)V" } : Jvm.MethodName)) ∈ lw_all := lw_g (lw_at lw_m3 48 rfl) rfl
theorem q587 : (Jvm.Cond.code ({ cls := "RankEntry$Op$28", name := "does", desc := "(LRankEntry$Core;II)V" } : Jvm.MethodName) prog_36_method_2_code (4 : Nat) (Option.none : Option Jvm.ClassFile.FieldType)) ∈ lw_all := lw_g (lw_at lw_m3 49 rfl) rfl
theorem q588 : (Jvm.Cond.methodLink "RankEntry$Op$28" (15 : Nat) ({ cls := "RankEntry$Core", name := "sets", desc := "(II)V" } : Jvm.MethodName)) ∈ lw_all := lw_g (lw_at lw_m3 50 rfl) rfl
theorem q842 : (Jvm.Cond.fieldLinkNest "RankEntry$Op$28" (9 : Nat) "RankEntry$Core" "data" "[I" "RankEntry") ∈ lw_tbl := lw_at lw_m4 64 rfl
theorem q1338 : (Jvm.Cond.selects "RankEntry$Op$28" ({ cls := "RankEntry$Op", name := "stops", desc := "()Z" } : Jvm.MethodName) ({ cls := "RankEntry$Op", name := "stops", desc := "()Z" } : Jvm.MethodName)) ∈ lw_all := lw_g (lw_at lw_m6 80 rfl) rfl
theorem q1371 : (Jvm.Cond.selects "RankEntry$Op$28" ({ cls := "RankEntry$Op", name := "ways", desc := "()I" } : Jvm.MethodName) ({ cls := "RankEntry$Op", name := "ways", desc := "()I" } : Jvm.MethodName)) ∈ lw_all := lw_g (lw_at lw_m6 113 rfl) rfl
theorem q1408 : (Jvm.Cond.selects "RankEntry$Op$28" ({ cls := "RankEntry$Op", name := "goesOn", desc := "()Z" } : Jvm.MethodName) ({ cls := "RankEntry$Op", name := "goesOn", desc := "()Z" } : Jvm.MethodName)) ∈ lw_all := lw_g (lw_at lw_m6 150 rfl) rfl
theorem q1447 : (Jvm.Cond.selects "RankEntry$Op$28" ({ cls := "RankEntry$Op", name := "jumps", desc := "()Z" } : Jvm.MethodName) ({ cls := "RankEntry$Op", name := "jumps", desc := "()Z" } : Jvm.MethodName)) ∈ lw_all := lw_g (lw_at lw_m6 189 rfl) rfl
theorem q1493 : (Jvm.Cond.selects "RankEntry$Op$28" ({ cls := "RankEntry$Op", name := "pushes", desc := "()I" } : Jvm.MethodName) ({ cls := "RankEntry$Op", name := "pushes", desc := "()I" } : Jvm.MethodName)) ∈ lw_all := lw_g (lw_at lw_m6 235 rfl) rfl
theorem q2192 : (Jvm.Cond.castable "RankEntry$Op$28" "java/lang/Object") ∈ lw_tbl := lw_at lw_m9 214 rfl
theorem q2239 : (Jvm.Cond.castable "RankEntry$Op$28" "RankEntry$Op") ∈ lw_tbl := lw_at lw_m10 21 rfl
/-! RankEntry$Op$29 -/
set_option maxRecDepth 100000
def RX39 : String := "RankEntry$Op$29"
abbrev cX39_does : ByteArray := prog_37_method_2_code
def yX39_does : MethodName := ⟨RX39, "does", "(LRankEntry$Core;II)V"⟩
def dkwX39_does_0 : List UInt8 := [43, 180, 0, 9, 29, 16, 15, 126, 43, 28, 182, 0, 15, 79, 177]
abbrev dktX39_does_0 : List UInt8 := dkwX39_does_0 ++ []
theorem dksX39_does_0 : cX39_does.data.toList.drop 0 = dktX39_does_0 := by decide +kernel
theorem dX39_does_0 : decode cX39_does 0 = .ok (.aload_n 1, 1) := dk_43 (dk_at dksX39_does_0 0 rfl rfl)
theorem dX39_does_1 : decode cX39_does 1 = .ok (.getfield 9, 3) := dk_180 0 9 (dk_at dksX39_does_0 1 rfl rfl)
theorem dX39_does_4 : decode cX39_does 4 = .ok (.iload_n 3, 1) := dk_29 (dk_at dksX39_does_0 4 rfl rfl)
theorem dX39_does_5 : decode cX39_does 5 = .ok (.bipush 15, 2) := dk_16 15 (dk_at dksX39_does_0 5 rfl rfl)
theorem dX39_does_7 : decode cX39_does 7 = .ok (.iand, 1) := dk_126 (dk_at dksX39_does_0 7 rfl rfl)
theorem dX39_does_8 : decode cX39_does 8 = .ok (.aload_n 1, 1) := dk_43 (dk_at dksX39_does_0 8 rfl rfl)
theorem dX39_does_9 : decode cX39_does 9 = .ok (.iload_n 2, 1) := dk_28 (dk_at dksX39_does_0 9 rfl rfl)
theorem dX39_does_10 : decode cX39_does 10 = .ok (.invokevirtual 15, 3) := dk_182 0 15 (dk_at dksX39_does_0 10 rfl rfl)
theorem dX39_does_13 : decode cX39_does 13 = .ok (.iastore, 1) := dk_79 (dk_at dksX39_does_0 13 rfl rfl)
theorem dX39_does_14 : decode cX39_does 14 = .ok (.return_, 1) := dk_177 (dk_at dksX39_does_0 14 rfl rfl)
theorem q396 : (Jvm.Cond.selects "RankEntry$Op$29" ({ cls := "RankEntry$Op", name := "isFloat", desc := "()Z" } : Jvm.MethodName) ({ cls := "RankEntry$Op", name := "isFloat", desc := "()Z" } : Jvm.MethodName)) ∈ lw_all := lw_g (lw_at lw_m2 98 rfl) rfl
theorem q589 : (Jvm.Cond.selects "RankEntry$Op$29" ({ cls := "RankEntry$Op", name := "does", desc := "(LRankEntry$Core;II)V" } : Jvm.MethodName) ({ cls := "RankEntry$Op$29", name := "does", desc := "(LRankEntry$Core;II)V" } : Jvm.MethodName)) ∈ lw_all := lw_g (lw_at lw_m3 51 rfl) rfl
theorem q590 : (Jvm.Cond.instanceMethod ({ cls := "RankEntry$Op$29", name := "does", desc := "(LRankEntry$Core;II)V" } : Jvm.MethodName)) ∈ lw_all := lw_g (lw_at lw_m3 52 rfl) rfl
theorem q591 : (Jvm.Cond.code ({ cls := "RankEntry$Op$29", name := "does", desc := "(LRankEntry$Core;II)V" } : Jvm.MethodName) prog_37_method_2_code (4 : Nat) (Option.none : Option Jvm.ClassFile.FieldType)) ∈ lw_all := lw_g (lw_at lw_m3 53 rfl) rfl
theorem q592 : (Jvm.Cond.methodLink "RankEntry$Op$29" (15 : Nat) ({ cls := "RankEntry$Core", name := "reg", desc := "(I)I" } : Jvm.MethodName)) ∈ lw_all := lw_g (lw_at lw_m3 54 rfl) rfl
theorem q841 : (Jvm.Cond.fieldLinkNest "RankEntry$Op$29" (9 : Nat) "RankEntry$Core" "data" "[I" "RankEntry") ∈ lw_tbl := lw_at lw_m4 63 rfl
theorem q1339 : (Jvm.Cond.selects "RankEntry$Op$29" ({ cls := "RankEntry$Op", name := "stops", desc := "()Z" } : Jvm.MethodName) ({ cls := "RankEntry$Op", name := "stops", desc := "()Z" } : Jvm.MethodName)) ∈ lw_all := lw_g (lw_at lw_m6 81 rfl) rfl
theorem q1372 : (Jvm.Cond.selects "RankEntry$Op$29" ({ cls := "RankEntry$Op", name := "ways", desc := "()I" } : Jvm.MethodName) ({ cls := "RankEntry$Op", name := "ways", desc := "()I" } : Jvm.MethodName)) ∈ lw_all := lw_g (lw_at lw_m6 114 rfl) rfl
theorem q1409 : (Jvm.Cond.selects "RankEntry$Op$29" ({ cls := "RankEntry$Op", name := "goesOn", desc := "()Z" } : Jvm.MethodName) ({ cls := "RankEntry$Op", name := "goesOn", desc := "()Z" } : Jvm.MethodName)) ∈ lw_all := lw_g (lw_at lw_m6 151 rfl) rfl
theorem q1448 : (Jvm.Cond.selects "RankEntry$Op$29" ({ cls := "RankEntry$Op", name := "jumps", desc := "()Z" } : Jvm.MethodName) ({ cls := "RankEntry$Op", name := "jumps", desc := "()Z" } : Jvm.MethodName)) ∈ lw_all := lw_g (lw_at lw_m6 190 rfl) rfl
theorem q1494 : (Jvm.Cond.selects "RankEntry$Op$29" ({ cls := "RankEntry$Op", name := "pushes", desc := "()I" } : Jvm.MethodName) ({ cls := "RankEntry$Op", name := "pushes", desc := "()I" } : Jvm.MethodName)) ∈ lw_all := lw_g (lw_at lw_m6 236 rfl) rfl
theorem q2193 : (Jvm.Cond.castable "RankEntry$Op$29" "java/lang/Object") ∈ lw_tbl := lw_at lw_m9 215 rfl
theorem q2240 : (Jvm.Cond.castable "RankEntry$Op$29" "RankEntry$Op") ∈ lw_tbl := lw_at lw_m10 22 rfl
/-! RankEntry$Op$3 -/
set_option maxRecDepth 100000
def RX40 : String := "RankEntry$Op$3"
abbrev cX40_does : ByteArray := prog_38_method_2_code
def yX40_does : MethodName := ⟨RX40, "does", "(LRankEntry$Core;II)V"⟩
def dkwX40_does_0 : List UInt8 := [43, 28, 43, 28, 182, 0, 7, 43, 29, 182, 0, 7, 100, 182, 0, 13, 177]
abbrev dktX40_does_0 : List UInt8 := dkwX40_does_0 ++ []
theorem dksX40_does_0 : cX40_does.data.toList.drop 0 = dktX40_does_0 := by decide +kernel
theorem dX40_does_0 : decode cX40_does 0 = .ok (.aload_n 1, 1) := dk_43 (dk_at dksX40_does_0 0 rfl rfl)
theorem dX40_does_1 : decode cX40_does 1 = .ok (.iload_n 2, 1) := dk_28 (dk_at dksX40_does_0 1 rfl rfl)
theorem dX40_does_2 : decode cX40_does 2 = .ok (.aload_n 1, 1) := dk_43 (dk_at dksX40_does_0 2 rfl rfl)
theorem dX40_does_3 : decode cX40_does 3 = .ok (.iload_n 2, 1) := dk_28 (dk_at dksX40_does_0 3 rfl rfl)
theorem dX40_does_4 : decode cX40_does 4 = .ok (.invokevirtual 7, 3) := dk_182 0 7 (dk_at dksX40_does_0 4 rfl rfl)
theorem dX40_does_7 : decode cX40_does 7 = .ok (.aload_n 1, 1) := dk_43 (dk_at dksX40_does_0 7 rfl rfl)
theorem dX40_does_8 : decode cX40_does 8 = .ok (.iload_n 3, 1) := dk_29 (dk_at dksX40_does_0 8 rfl rfl)
theorem dX40_does_9 : decode cX40_does 9 = .ok (.invokevirtual 7, 3) := dk_182 0 7 (dk_at dksX40_does_0 9 rfl rfl)
theorem dX40_does_12 : decode cX40_does 12 = .ok (.isub, 1) := dk_100 (dk_at dksX40_does_0 12 rfl rfl)
theorem dX40_does_13 : decode cX40_does 13 = .ok (.invokevirtual 13, 3) := dk_182 0 13 (dk_at dksX40_does_0 13 rfl rfl)
theorem dX40_does_16 : decode cX40_does 16 = .ok (.return_, 1) := dk_177 (dk_at dksX40_does_0 16 rfl rfl)
theorem q397 : (Jvm.Cond.selects "RankEntry$Op$3" ({ cls := "RankEntry$Op", name := "isFloat", desc := "()Z" } : Jvm.MethodName) ({ cls := "RankEntry$Op", name := "isFloat", desc := "()Z" } : Jvm.MethodName)) ∈ lw_all := lw_g (lw_at lw_m2 99 rfl) rfl
theorem q593 : (Jvm.Cond.selects "RankEntry$Op$3" ({ cls := "RankEntry$Op", name := "does", desc := "(LRankEntry$Core;II)V" } : Jvm.MethodName) ({ cls := "RankEntry$Op$3", name := "does", desc := "(LRankEntry$Core;II)V" } : Jvm.MethodName)) ∈ lw_all := lw_g (lw_at lw_m3 55 rfl) rfl
theorem q594 : (Jvm.Cond.instanceMethod ({ cls := "RankEntry$Op$3", name := "does", desc := "(LRankEntry$Core;II)V" } : Jvm.MethodName)) ∈ lw_all := lw_g (lw_at lw_m3 56 rfl) rfl
theorem q595 : (Jvm.Cond.code ({ cls := "RankEntry$Op$3", name := "does", desc := "(LRankEntry$Core;II)V" } : Jvm.MethodName) prog_38_method_2_code (4 : Nat) (Option.none : Option Jvm.ClassFile.FieldType)) ∈ lw_all := lw_g (lw_at lw_m3 57 rfl) rfl
theorem q596 : (Jvm.Cond.methodLink "RankEntry$Op$3" (7 : Nat) ({ cls := "RankEntry$Core", name := "reg", desc := "(I)I" } : Jvm.MethodName)) ∈ lw_all := lw_g (lw_at lw_m3 58 rfl) rfl
theorem q597 : (Jvm.Cond.methodLink "RankEntry$Op$3" (13 : Nat) ({ cls := "RankEntry$Core", name := "comes", desc := "(II)V" } : Jvm.MethodName)) ∈ lw_all := lw_g (lw_at lw_m3 59 rfl) rfl
theorem q1340 : (Jvm.Cond.selects "RankEntry$Op$3" ({ cls := "RankEntry$Op", name := "stops", desc := "()Z" } : Jvm.MethodName) ({ cls := "RankEntry$Op", name := "stops", desc := "()Z" } : Jvm.MethodName)) ∈ lw_all := lw_g (lw_at lw_m6 82 rfl) rfl
theorem q1373 : (Jvm.Cond.selects "RankEntry$Op$3" ({ cls := "RankEntry$Op", name := "ways", desc := "()I" } : Jvm.MethodName) ({ cls := "RankEntry$Op", name := "ways", desc := "()I" } : Jvm.MethodName)) ∈ lw_all := lw_g (lw_at lw_m6 115 rfl) rfl
theorem q1410 : (Jvm.Cond.selects "RankEntry$Op$3" ({ cls := "RankEntry$Op", name := "goesOn", desc := "()Z" } : Jvm.MethodName) ({ cls := "RankEntry$Op", name := "goesOn", desc := "()Z" } : Jvm.MethodName)) ∈ lw_all := lw_g (lw_at lw_m6 152 rfl) rfl
theorem q1449 : (Jvm.Cond.selects "RankEntry$Op$3" ({ cls := "RankEntry$Op", name := "jumps", desc := "()Z" } : Jvm.MethodName) ({ cls := "RankEntry$Op", name := "jumps", desc := "()Z" } : Jvm.MethodName)) ∈ lw_all := lw_g (lw_at lw_m6 191 rfl) rfl
theorem q1495 : (Jvm.Cond.selects "RankEntry$Op$3" ({ cls := "RankEntry$Op", name := "pushes", desc := "()I" } : Jvm.MethodName) ({ cls := "RankEntry$Op", name := "pushes", desc := "()I" } : Jvm.MethodName)) ∈ lw_all := lw_g (lw_at lw_m6 237 rfl) rfl
theorem q2167 : (Jvm.Cond.castable "RankEntry$Op$3" "java/lang/Object") ∈ lw_tbl := lw_at lw_m9 189 rfl
theorem q2214 : (Jvm.Cond.castable "RankEntry$Op$3" "RankEntry$Op") ∈ lw_tbl := lw_at lw_m9 236 rfl
/-! RankEntry$Op$4 -/
set_option maxRecDepth 100000
def RX41 : String := "RankEntry$Op$4"
abbrev cX41_does : ByteArray := prog_39_method_2_code
def yX41_does : MethodName := ⟨RX41, "does", "(LRankEntry$Core;II)V"⟩
def dkwX41_does_0 : List UInt8 := [43, 28, 43, 28, 182, 0, 7, 43, 29, 182, 0, 7, 104, 182, 0, 13, 177]
abbrev dktX41_does_0 : List UInt8 := dkwX41_does_0 ++ []
theorem dksX41_does_0 : cX41_does.data.toList.drop 0 = dktX41_does_0 := by decide +kernel
theorem dX41_does_0 : decode cX41_does 0 = .ok (.aload_n 1, 1) := dk_43 (dk_at dksX41_does_0 0 rfl rfl)
theorem dX41_does_1 : decode cX41_does 1 = .ok (.iload_n 2, 1) := dk_28 (dk_at dksX41_does_0 1 rfl rfl)
theorem dX41_does_2 : decode cX41_does 2 = .ok (.aload_n 1, 1) := dk_43 (dk_at dksX41_does_0 2 rfl rfl)
theorem dX41_does_3 : decode cX41_does 3 = .ok (.iload_n 2, 1) := dk_28 (dk_at dksX41_does_0 3 rfl rfl)
theorem dX41_does_4 : decode cX41_does 4 = .ok (.invokevirtual 7, 3) := dk_182 0 7 (dk_at dksX41_does_0 4 rfl rfl)
theorem dX41_does_7 : decode cX41_does 7 = .ok (.aload_n 1, 1) := dk_43 (dk_at dksX41_does_0 7 rfl rfl)
theorem dX41_does_8 : decode cX41_does 8 = .ok (.iload_n 3, 1) := dk_29 (dk_at dksX41_does_0 8 rfl rfl)
theorem dX41_does_9 : decode cX41_does 9 = .ok (.invokevirtual 7, 3) := dk_182 0 7 (dk_at dksX41_does_0 9 rfl rfl)
theorem dX41_does_12 : decode cX41_does 12 = .ok (.imul, 1) := dk_104 (dk_at dksX41_does_0 12 rfl rfl)
theorem dX41_does_13 : decode cX41_does 13 = .ok (.invokevirtual 13, 3) := dk_182 0 13 (dk_at dksX41_does_0 13 rfl rfl)
theorem dX41_does_16 : decode cX41_does 16 = .ok (.return_, 1) := dk_177 (dk_at dksX41_does_0 16 rfl rfl)
theorem q398 : (Jvm.Cond.selects "RankEntry$Op$4" ({ cls := "RankEntry$Op", name := "isFloat", desc := "()Z" } : Jvm.MethodName) ({ cls := "RankEntry$Op", name := "isFloat", desc := "()Z" } : Jvm.MethodName)) ∈ lw_all := lw_g (lw_at lw_m2 100 rfl) rfl
theorem q598 : (Jvm.Cond.selects "RankEntry$Op$4" ({ cls := "RankEntry$Op", name := "does", desc := "(LRankEntry$Core;II)V" } : Jvm.MethodName) ({ cls := "RankEntry$Op$4", name := "does", desc := "(LRankEntry$Core;II)V" } : Jvm.MethodName)) ∈ lw_all := lw_g (lw_at lw_m3 60 rfl) rfl
theorem q599 : (Jvm.Cond.instanceMethod ({ cls := "RankEntry$Op$4", name := "does", desc := "(LRankEntry$Core;II)V" } : Jvm.MethodName)) ∈ lw_all := lw_g (lw_at lw_m3 61 rfl) rfl
theorem q600 : (Jvm.Cond.code ({ cls := "RankEntry$Op$4", name := "does", desc := "(LRankEntry$Core;II)V" } : Jvm.MethodName) prog_39_method_2_code (4 : Nat) (Option.none : Option Jvm.ClassFile.FieldType)) ∈ lw_all := lw_g (lw_at lw_m3 62 rfl) rfl
theorem q601 : (Jvm.Cond.methodLink "RankEntry$Op$4" (7 : Nat) ({ cls := "RankEntry$Core", name := "reg", desc := "(I)I" } : Jvm.MethodName)) ∈ lw_all := lw_g (lw_at lw_m3 63 rfl) rfl
theorem q602 : (Jvm.Cond.methodLink "RankEntry$Op$4" (13 : Nat) ({ cls := "RankEntry$Core", name := "comes", desc := "(II)V" } : Jvm.MethodName)) ∈ lw_all := lw_g (lw_at lw_m3 64 rfl) rfl
theorem q1341 : (Jvm.Cond.selects "RankEntry$Op$4" ({ cls := "RankEntry$Op", name := "stops", desc := "()Z" } : Jvm.MethodName) ({ cls := "RankEntry$Op", name := "stops", desc := "()Z" } : Jvm.MethodName)) ∈ lw_all := lw_g (lw_at lw_m6 83 rfl) rfl
theorem q1374 : (Jvm.Cond.selects "RankEntry$Op$4" ({ cls := "RankEntry$Op", name := "ways", desc := "()I" } : Jvm.MethodName) ({ cls := "RankEntry$Op", name := "ways", desc := "()I" } : Jvm.MethodName)) ∈ lw_all := lw_g (lw_at lw_m6 116 rfl) rfl
theorem q1411 : (Jvm.Cond.selects "RankEntry$Op$4" ({ cls := "RankEntry$Op", name := "goesOn", desc := "()Z" } : Jvm.MethodName) ({ cls := "RankEntry$Op", name := "goesOn", desc := "()Z" } : Jvm.MethodName)) ∈ lw_all := lw_g (lw_at lw_m6 153 rfl) rfl
theorem q1450 : (Jvm.Cond.selects "RankEntry$Op$4" ({ cls := "RankEntry$Op", name := "jumps", desc := "()Z" } : Jvm.MethodName) ({ cls := "RankEntry$Op", name := "jumps", desc := "()Z" } : Jvm.MethodName)) ∈ lw_all := lw_g (lw_at lw_m6 192 rfl) rfl
theorem q1496 : (Jvm.Cond.selects "RankEntry$Op$4" ({ cls := "RankEntry$Op", name := "pushes", desc := "()I" } : Jvm.MethodName) ({ cls := "RankEntry$Op", name := "pushes", desc := "()I" } : Jvm.MethodName)) ∈ lw_all := lw_g (lw_at lw_m6 238 rfl) rfl
theorem q2168 : (Jvm.Cond.castable "RankEntry$Op$4" "java/lang/Object") ∈ lw_tbl := lw_at lw_m9 190 rfl
theorem q2215 : (Jvm.Cond.castable "RankEntry$Op$4" "RankEntry$Op") ∈ lw_tbl := lw_at lw_m9 237 rfl
/-! RankEntry$Op$5 -/
set_option maxRecDepth 100000
def RX42 : String := "RankEntry$Op$5"
abbrev cX42_does : ByteArray := prog_40_method_2_code
def yX42_does : MethodName := ⟨RX42, "does", "(LRankEntry$Core;II)V"⟩
def dkwX42_does_1 : List UInt8 := [182, 0, 7, 108, 182, 0, 17, 177]
abbrev dktX42_does_1 : List UInt8 := dkwX42_does_1 ++ []
def dkwX42_does_0 : List UInt8 := [43, 29, 182, 0, 7, 154, 0, 8, 43, 180, 0, 13, 191, 43, 28, 43, 28, 182, 0, 7, 43, 29]
abbrev dktX42_does_0 : List UInt8 := dkwX42_does_0 ++ dktX42_does_1
theorem dksX42_does_0 : cX42_does.data.toList.drop 0 = dktX42_does_0 := by decide +kernel
theorem dksX42_does_1 : cX42_does.data.toList.drop 22 = dktX42_does_1 := dk_seg dksX42_does_0 22 rfl rfl
theorem dX42_does_0 : decode cX42_does 0 = .ok (.aload_n 1, 1) := dk_43 (dk_at dksX42_does_0 0 rfl rfl)
theorem dX42_does_1 : decode cX42_does 1 = .ok (.iload_n 3, 1) := dk_29 (dk_at dksX42_does_0 1 rfl rfl)
theorem dX42_does_2 : decode cX42_does 2 = .ok (.invokevirtual 7, 3) := dk_182 0 7 (dk_at dksX42_does_0 2 rfl rfl)
theorem dX42_does_5 : decode cX42_does 5 = .ok (.ifCond .ne 8, 3) := dk_154 0 8 (dk_at dksX42_does_0 5 rfl rfl)
theorem dX42_does_8 : decode cX42_does 8 = .ok (.aload_n 1, 1) := dk_43 (dk_at dksX42_does_0 8 rfl rfl)
theorem dX42_does_9 : decode cX42_does 9 = .ok (.getfield 13, 3) := dk_180 0 13 (dk_at dksX42_does_0 9 rfl rfl)
theorem dX42_does_12 : decode cX42_does 12 = .ok (.athrow, 1) := dk_191 (dk_at dksX42_does_0 12 rfl rfl)
theorem dX42_does_13 : decode cX42_does 13 = .ok (.aload_n 1, 1) := dk_43 (dk_at dksX42_does_0 13 rfl rfl)
theorem dX42_does_14 : decode cX42_does 14 = .ok (.iload_n 2, 1) := dk_28 (dk_at dksX42_does_0 14 rfl rfl)
theorem dX42_does_15 : decode cX42_does 15 = .ok (.aload_n 1, 1) := dk_43 (dk_at dksX42_does_0 15 rfl rfl)
theorem dX42_does_16 : decode cX42_does 16 = .ok (.iload_n 2, 1) := dk_28 (dk_at dksX42_does_0 16 rfl rfl)
theorem dX42_does_17 : decode cX42_does 17 = .ok (.invokevirtual 7, 3) := dk_182 0 7 (dk_at dksX42_does_0 17 rfl rfl)
theorem dX42_does_20 : decode cX42_does 20 = .ok (.aload_n 1, 1) := dk_43 (dk_at dksX42_does_0 20 rfl rfl)
theorem dX42_does_21 : decode cX42_does 21 = .ok (.iload_n 3, 1) := dk_29 (dk_at dksX42_does_0 21 rfl rfl)
theorem dX42_does_22 : decode cX42_does 22 = .ok (.invokevirtual 7, 3) := dk_182 0 7 (dk_at dksX42_does_1 0 rfl rfl)
theorem dX42_does_25 : decode cX42_does 25 = .ok (.idiv, 1) := dk_108 (dk_at dksX42_does_1 3 rfl rfl)
theorem dX42_does_26 : decode cX42_does 26 = .ok (.invokevirtual 17, 3) := dk_182 0 17 (dk_at dksX42_does_1 4 rfl rfl)
theorem dX42_does_29 : decode cX42_does 29 = .ok (.return_, 1) := dk_177 (dk_at dksX42_does_1 7 rfl rfl)
theorem q399 : (Jvm.Cond.selects "RankEntry$Op$5" ({ cls := "RankEntry$Op", name := "isFloat", desc := "()Z" } : Jvm.MethodName) ({ cls := "RankEntry$Op", name := "isFloat", desc := "()Z" } : Jvm.MethodName)) ∈ lw_all := lw_g (lw_at lw_m2 101 rfl) rfl
theorem q603 : (Jvm.Cond.selects "RankEntry$Op$5" ({ cls := "RankEntry$Op", name := "does", desc := "(LRankEntry$Core;II)V" } : Jvm.MethodName) ({ cls := "RankEntry$Op$5", name := "does", desc := "(LRankEntry$Core;II)V" } : Jvm.MethodName)) ∈ lw_all := lw_g (lw_at lw_m3 65 rfl) rfl
theorem q604 : (Jvm.Cond.instanceMethod ({ cls := "RankEntry$Op$5", name := "does", desc := "(LRankEntry$Core;II)V" } : Jvm.MethodName)) ∈ lw_all := lw_g (lw_at lw_m3 66 rfl) rfl
theorem q605 : (Jvm.Cond.code ({ cls := "RankEntry$Op$5", name := "does", desc := "(LRankEntry$Core;II)V" } : Jvm.MethodName) prog_40_method_2_code (4 : Nat) (Option.none : Option Jvm.ClassFile.FieldType)) ∈ lw_all := lw_g (lw_at lw_m3 67 rfl) rfl
theorem q606 : (Jvm.Cond.methodLink "RankEntry$Op$5" (7 : Nat) ({ cls := "RankEntry$Core", name := "reg", desc := "(I)I" } : Jvm.MethodName)) ∈ lw_all := lw_g (lw_at lw_m3 68 rfl) rfl
theorem q607 : (Jvm.Cond.methodLink "RankEntry$Op$5" (17 : Nat) ({ cls := "RankEntry$Core", name := "comes", desc := "(II)V" } : Jvm.MethodName)) ∈ lw_all := lw_g (lw_at lw_m3 69 rfl) rfl
theorem q829 : (Jvm.Cond.fieldLinkNest "RankEntry$Op$5" (13 : Nat) "RankEntry$Core" "wrong" "LRankEntry$Trap;" "RankEntry") ∈ lw_tbl := lw_at lw_m4 51 rfl
theorem q1342 : (Jvm.Cond.selects "RankEntry$Op$5" ({ cls := "RankEntry$Op", name := "stops", desc := "()Z" } : Jvm.MethodName) ({ cls := "RankEntry$Op", name := "stops", desc := "()Z" } : Jvm.MethodName)) ∈ lw_all := lw_g (lw_at lw_m6 84 rfl) rfl
theorem q1375 : (Jvm.Cond.selects "RankEntry$Op$5" ({ cls := "RankEntry$Op", name := "ways", desc := "()I" } : Jvm.MethodName) ({ cls := "RankEntry$Op", name := "ways", desc := "()I" } : Jvm.MethodName)) ∈ lw_all := lw_g (lw_at lw_m6 117 rfl) rfl
theorem q1412 : (Jvm.Cond.selects "RankEntry$Op$5" ({ cls := "RankEntry$Op", name := "goesOn", desc := "()Z" } : Jvm.MethodName) ({ cls := "RankEntry$Op", name := "goesOn", desc := "()Z" } : Jvm.MethodName)) ∈ lw_all := lw_g (lw_at lw_m6 154 rfl) rfl
theorem q1451 : (Jvm.Cond.selects "RankEntry$Op$5" ({ cls := "RankEntry$Op", name := "jumps", desc := "()Z" } : Jvm.MethodName) ({ cls := "RankEntry$Op", name := "jumps", desc := "()Z" } : Jvm.MethodName)) ∈ lw_all := lw_g (lw_at lw_m6 193 rfl) rfl
theorem q1497 : (Jvm.Cond.selects "RankEntry$Op$5" ({ cls := "RankEntry$Op", name := "pushes", desc := "()I" } : Jvm.MethodName) ({ cls := "RankEntry$Op", name := "pushes", desc := "()I" } : Jvm.MethodName)) ∈ lw_all := lw_g (lw_at lw_m6 239 rfl) rfl
theorem q2169 : (Jvm.Cond.castable "RankEntry$Op$5" "java/lang/Object") ∈ lw_tbl := lw_at lw_m9 191 rfl
theorem q2216 : (Jvm.Cond.castable "RankEntry$Op$5" "RankEntry$Op") ∈ lw_tbl := lw_at lw_m9 238 rfl
/-! RankEntry$Op$6 -/
set_option maxRecDepth 100000
def RX43 : String := "RankEntry$Op$6"
abbrev cX43_does : ByteArray := prog_41_method_2_code
def yX43_does : MethodName := ⟨RX43, "does", "(LRankEntry$Core;II)V"⟩
def dkwX43_does_0 : List UInt8 := [43, 28, 43, 28, 182, 0, 7, 43, 29, 182, 0, 7, 130, 182, 0, 13, 177]
abbrev dktX43_does_0 : List UInt8 := dkwX43_does_0 ++ []
theorem dksX43_does_0 : cX43_does.data.toList.drop 0 = dktX43_does_0 := by decide +kernel
theorem dX43_does_0 : decode cX43_does 0 = .ok (.aload_n 1, 1) := dk_43 (dk_at dksX43_does_0 0 rfl rfl)
theorem dX43_does_1 : decode cX43_does 1 = .ok (.iload_n 2, 1) := dk_28 (dk_at dksX43_does_0 1 rfl rfl)
theorem dX43_does_2 : decode cX43_does 2 = .ok (.aload_n 1, 1) := dk_43 (dk_at dksX43_does_0 2 rfl rfl)
theorem dX43_does_3 : decode cX43_does 3 = .ok (.iload_n 2, 1) := dk_28 (dk_at dksX43_does_0 3 rfl rfl)
theorem dX43_does_4 : decode cX43_does 4 = .ok (.invokevirtual 7, 3) := dk_182 0 7 (dk_at dksX43_does_0 4 rfl rfl)
theorem dX43_does_7 : decode cX43_does 7 = .ok (.aload_n 1, 1) := dk_43 (dk_at dksX43_does_0 7 rfl rfl)
theorem dX43_does_8 : decode cX43_does 8 = .ok (.iload_n 3, 1) := dk_29 (dk_at dksX43_does_0 8 rfl rfl)
theorem dX43_does_9 : decode cX43_does 9 = .ok (.invokevirtual 7, 3) := dk_182 0 7 (dk_at dksX43_does_0 9 rfl rfl)
theorem dX43_does_12 : decode cX43_does 12 = .ok (.ixor, 1) := dk_130 (dk_at dksX43_does_0 12 rfl rfl)
theorem dX43_does_13 : decode cX43_does 13 = .ok (.invokevirtual 13, 3) := dk_182 0 13 (dk_at dksX43_does_0 13 rfl rfl)
theorem dX43_does_16 : decode cX43_does 16 = .ok (.return_, 1) := dk_177 (dk_at dksX43_does_0 16 rfl rfl)
theorem q400 : (Jvm.Cond.selects "RankEntry$Op$6" ({ cls := "RankEntry$Op", name := "isFloat", desc := "()Z" } : Jvm.MethodName) ({ cls := "RankEntry$Op", name := "isFloat", desc := "()Z" } : Jvm.MethodName)) ∈ lw_all := lw_g (lw_at lw_m2 102 rfl) rfl
theorem q608 : (Jvm.Cond.selects "RankEntry$Op$6" ({ cls := "RankEntry$Op", name := "does", desc := "(LRankEntry$Core;II)V" } : Jvm.MethodName) ({ cls := "RankEntry$Op$6", name := "does", desc := "(LRankEntry$Core;II)V" } : Jvm.MethodName)) ∈ lw_all := lw_g (lw_at lw_m3 70 rfl) rfl
theorem q609 : (Jvm.Cond.instanceMethod ({ cls := "RankEntry$Op$6", name := "does", desc := "(LRankEntry$Core;II)V" } : Jvm.MethodName)) ∈ lw_all := lw_g (lw_at lw_m3 71 rfl) rfl
theorem q610 : (Jvm.Cond.code ({ cls := "RankEntry$Op$6", name := "does", desc := "(LRankEntry$Core;II)V" } : Jvm.MethodName) prog_41_method_2_code (4 : Nat) (Option.none : Option Jvm.ClassFile.FieldType)) ∈ lw_all := lw_g (lw_at lw_m3 72 rfl) rfl
theorem q611 : (Jvm.Cond.methodLink "RankEntry$Op$6" (7 : Nat) ({ cls := "RankEntry$Core", name := "reg", desc := "(I)I" } : Jvm.MethodName)) ∈ lw_all := lw_g (lw_at lw_m3 73 rfl) rfl
theorem q612 : (Jvm.Cond.methodLink "RankEntry$Op$6" (13 : Nat) ({ cls := "RankEntry$Core", name := "comes", desc := "(II)V" } : Jvm.MethodName)) ∈ lw_all := lw_g (lw_at lw_m3 74 rfl) rfl
theorem q1343 : (Jvm.Cond.selects "RankEntry$Op$6" ({ cls := "RankEntry$Op", name := "stops", desc := "()Z" } : Jvm.MethodName) ({ cls := "RankEntry$Op", name := "stops", desc := "()Z" } : Jvm.MethodName)) ∈ lw_all := lw_g (lw_at lw_m6 85 rfl) rfl
theorem q1376 : (Jvm.Cond.selects "RankEntry$Op$6" ({ cls := "RankEntry$Op", name := "ways", desc := "()I" } : Jvm.MethodName) ({ cls := "RankEntry$Op", name := "ways", desc := "()I" } : Jvm.MethodName)) ∈ lw_all := lw_g (lw_at lw_m6 118 rfl) rfl
theorem q1413 : (Jvm.Cond.selects "RankEntry$Op$6" ({ cls := "RankEntry$Op", name := "goesOn", desc := "()Z" } : Jvm.MethodName) ({ cls := "RankEntry$Op", name := "goesOn", desc := "()Z" } : Jvm.MethodName)) ∈ lw_all := lw_g (lw_at lw_m6 155 rfl) rfl
theorem q1452 : (Jvm.Cond.selects "RankEntry$Op$6" ({ cls := "RankEntry$Op", name := "jumps", desc := "()Z" } : Jvm.MethodName) ({ cls := "RankEntry$Op", name := "jumps", desc := "()Z" } : Jvm.MethodName)) ∈ lw_all := lw_g (lw_at lw_m6 194 rfl) rfl
theorem q1498 : (Jvm.Cond.selects "RankEntry$Op$6" ({ cls := "RankEntry$Op", name := "pushes", desc := "()I" } : Jvm.MethodName) ({ cls := "RankEntry$Op", name := "pushes", desc := "()I" } : Jvm.MethodName)) ∈ lw_all := lw_g (lw_at lw_m7 0 rfl) rfl
theorem q2170 : (Jvm.Cond.castable "RankEntry$Op$6" "java/lang/Object") ∈ lw_tbl := lw_at lw_m9 192 rfl
theorem q2217 : (Jvm.Cond.castable "RankEntry$Op$6" "RankEntry$Op") ∈ lw_tbl := lw_at lw_m9 239 rfl
/-! RankEntry$Op$7 -/
set_option maxRecDepth 100000
def RX44 : String := "RankEntry$Op$7"
abbrev cX44_does : ByteArray := prog_42_method_2_code
def yX44_does : MethodName := ⟨RX44, "does", "(LRankEntry$Core;II)V"⟩
def dkwX44_does_1 : List UInt8 := [167, 0, 14, 43, 28, 182, 0, 7, 21, 4, 16, 32, 100, 122, 182, 0, 13, 177]
abbrev dktX44_does_1 : List UInt8 := dkwX44_does_1 ++ []
def dkwX44_does_0 : List UInt8 := [29, 16, 63, 126, 54, 4, 43, 28, 21, 4, 16, 32, 162, 0, 14, 43, 28, 182, 0, 7, 21, 4, 120]
abbrev dktX44_does_0 : List UInt8 := dkwX44_does_0 ++ dktX44_does_1
theorem dksX44_does_0 : cX44_does.data.toList.drop 0 = dktX44_does_0 := by decide +kernel
theorem dksX44_does_1 : cX44_does.data.toList.drop 23 = dktX44_does_1 := dk_seg dksX44_does_0 23 rfl rfl
theorem dX44_does_0 : decode cX44_does 0 = .ok (.iload_n 3, 1) := dk_29 (dk_at dksX44_does_0 0 rfl rfl)
theorem dX44_does_1 : decode cX44_does 1 = .ok (.bipush 63, 2) := dk_16 63 (dk_at dksX44_does_0 1 rfl rfl)
theorem dX44_does_3 : decode cX44_does 3 = .ok (.iand, 1) := dk_126 (dk_at dksX44_does_0 3 rfl rfl)
theorem dX44_does_4 : decode cX44_does 4 = .ok (.istore 4, 2) := dk_54 4 (dk_at dksX44_does_0 4 rfl rfl)
theorem dX44_does_6 : decode cX44_does 6 = .ok (.aload_n 1, 1) := dk_43 (dk_at dksX44_does_0 6 rfl rfl)
theorem dX44_does_7 : decode cX44_does 7 = .ok (.iload_n 2, 1) := dk_28 (dk_at dksX44_does_0 7 rfl rfl)
theorem dX44_does_8 : decode cX44_does 8 = .ok (.iload 4, 2) := dk_21 4 (dk_at dksX44_does_0 8 rfl rfl)
theorem dX44_does_10 : decode cX44_does 10 = .ok (.bipush 32, 2) := dk_16 32 (dk_at dksX44_does_0 10 rfl rfl)
theorem dX44_does_12 : decode cX44_does 12 = .ok (.if_icmp .ge 14, 3) := dk_162 0 14 (dk_at dksX44_does_0 12 rfl rfl)
theorem dX44_does_15 : decode cX44_does 15 = .ok (.aload_n 1, 1) := dk_43 (dk_at dksX44_does_0 15 rfl rfl)
theorem dX44_does_16 : decode cX44_does 16 = .ok (.iload_n 2, 1) := dk_28 (dk_at dksX44_does_0 16 rfl rfl)
theorem dX44_does_17 : decode cX44_does 17 = .ok (.invokevirtual 7, 3) := dk_182 0 7 (dk_at dksX44_does_0 17 rfl rfl)
theorem dX44_does_20 : decode cX44_does 20 = .ok (.iload 4, 2) := dk_21 4 (dk_at dksX44_does_0 20 rfl rfl)
theorem dX44_does_22 : decode cX44_does 22 = .ok (.ishl, 1) := dk_120 (dk_at dksX44_does_0 22 rfl rfl)
theorem dX44_does_23 : decode cX44_does 23 = .ok (.goto 14, 3) := dk_167 0 14 (dk_at dksX44_does_1 0 rfl rfl)
theorem dX44_does_26 : decode cX44_does 26 = .ok (.aload_n 1, 1) := dk_43 (dk_at dksX44_does_1 3 rfl rfl)
theorem dX44_does_27 : decode cX44_does 27 = .ok (.iload_n 2, 1) := dk_28 (dk_at dksX44_does_1 4 rfl rfl)
theorem dX44_does_28 : decode cX44_does 28 = .ok (.invokevirtual 7, 3) := dk_182 0 7 (dk_at dksX44_does_1 5 rfl rfl)
theorem dX44_does_31 : decode cX44_does 31 = .ok (.iload 4, 2) := dk_21 4 (dk_at dksX44_does_1 8 rfl rfl)
theorem dX44_does_33 : decode cX44_does 33 = .ok (.bipush 32, 2) := dk_16 32 (dk_at dksX44_does_1 10 rfl rfl)
theorem dX44_does_35 : decode cX44_does 35 = .ok (.isub, 1) := dk_100 (dk_at dksX44_does_1 12 rfl rfl)
theorem dX44_does_36 : decode cX44_does 36 = .ok (.ishr, 1) := dk_122 (dk_at dksX44_does_1 13 rfl rfl)
theorem dX44_does_37 : decode cX44_does 37 = .ok (.invokevirtual 13, 3) := dk_182 0 13 (dk_at dksX44_does_1 14 rfl rfl)
theorem dX44_does_40 : decode cX44_does 40 = .ok (.return_, 1) := dk_177 (dk_at dksX44_does_1 17 rfl rfl)
theorem q401 : (Jvm.Cond.selects "RankEntry$Op$7" ({ cls := "RankEntry$Op", name := "isFloat", desc := "()Z" } : Jvm.MethodName) ({ cls := "RankEntry$Op", name := "isFloat", desc := "()Z" } : Jvm.MethodName)) ∈ lw_all := lw_g (lw_at lw_m2 103 rfl) rfl
theorem q613 : (Jvm.Cond.selects "RankEntry$Op$7" ({ cls := "RankEntry$Op", name := "does", desc := "(LRankEntry$Core;II)V" } : Jvm.MethodName) ({ cls := "RankEntry$Op$7", name := "does", desc := "(LRankEntry$Core;II)V" } : Jvm.MethodName)) ∈ lw_all := lw_g (lw_at lw_m3 75 rfl) rfl
theorem q614 : (Jvm.Cond.instanceMethod ({ cls := "RankEntry$Op$7", name := "does", desc := "(LRankEntry$Core;II)V" } : Jvm.MethodName)) ∈ lw_all := lw_g (lw_at lw_m3 76 rfl) rfl
theorem q615 : (Jvm.Cond.code ({ cls := "RankEntry$Op$7", name := "does", desc := "(LRankEntry$Core;II)V" } : Jvm.MethodName) prog_42_method_2_code (5 : Nat) (Option.none : Option Jvm.ClassFile.FieldType)) ∈ lw_all := lw_g (lw_at lw_m3 77 rfl) rfl
theorem q616 : (Jvm.Cond.methodLink "RankEntry$Op$7" (7 : Nat) ({ cls := "RankEntry$Core", name := "reg", desc := "(I)I" } : Jvm.MethodName)) ∈ lw_all := lw_g (lw_at lw_m3 78 rfl) rfl
theorem q617 : (Jvm.Cond.methodLink "RankEntry$Op$7" (13 : Nat) ({ cls := "RankEntry$Core", name := "comes", desc := "(II)V" } : Jvm.MethodName)) ∈ lw_all := lw_g (lw_at lw_m3 79 rfl) rfl
theorem q1344 : (Jvm.Cond.selects "RankEntry$Op$7" ({ cls := "RankEntry$Op", name := "stops", desc := "()Z" } : Jvm.MethodName) ({ cls := "RankEntry$Op", name := "stops", desc := "()Z" } : Jvm.MethodName)) ∈ lw_all := lw_g (lw_at lw_m6 86 rfl) rfl
theorem q1377 : (Jvm.Cond.selects "RankEntry$Op$7" ({ cls := "RankEntry$Op", name := "ways", desc := "()I" } : Jvm.MethodName) ({ cls := "RankEntry$Op", name := "ways", desc := "()I" } : Jvm.MethodName)) ∈ lw_all := lw_g (lw_at lw_m6 119 rfl) rfl
theorem q1414 : (Jvm.Cond.selects "RankEntry$Op$7" ({ cls := "RankEntry$Op", name := "goesOn", desc := "()Z" } : Jvm.MethodName) ({ cls := "RankEntry$Op", name := "goesOn", desc := "()Z" } : Jvm.MethodName)) ∈ lw_all := lw_g (lw_at lw_m6 156 rfl) rfl
theorem q1453 : (Jvm.Cond.selects "RankEntry$Op$7" ({ cls := "RankEntry$Op", name := "jumps", desc := "()Z" } : Jvm.MethodName) ({ cls := "RankEntry$Op", name := "jumps", desc := "()Z" } : Jvm.MethodName)) ∈ lw_all := lw_g (lw_at lw_m6 195 rfl) rfl
theorem q1499 : (Jvm.Cond.selects "RankEntry$Op$7" ({ cls := "RankEntry$Op", name := "pushes", desc := "()I" } : Jvm.MethodName) ({ cls := "RankEntry$Op", name := "pushes", desc := "()I" } : Jvm.MethodName)) ∈ lw_all := lw_g (lw_at lw_m7 1 rfl) rfl
theorem q2171 : (Jvm.Cond.castable "RankEntry$Op$7" "java/lang/Object") ∈ lw_tbl := lw_at lw_m9 193 rfl
theorem q2218 : (Jvm.Cond.castable "RankEntry$Op$7" "RankEntry$Op") ∈ lw_tbl := lw_at lw_m10 0 rfl
/-! RankEntry$Op$8 -/
set_option maxRecDepth 100000
def RX45 : String := "RankEntry$Op$8"
abbrev cX45_does : ByteArray := prog_43_method_2_code
def yX45_does : MethodName := ⟨RX45, "does", "(LRankEntry$Core;II)V"⟩
def dkwX45_does_0 : List UInt8 := [43, 28, 43, 29, 182, 0, 7, 182, 0, 13, 177]
abbrev dktX45_does_0 : List UInt8 := dkwX45_does_0 ++ []
theorem dksX45_does_0 : cX45_does.data.toList.drop 0 = dktX45_does_0 := by decide +kernel
theorem dX45_does_0 : decode cX45_does 0 = .ok (.aload_n 1, 1) := dk_43 (dk_at dksX45_does_0 0 rfl rfl)
theorem dX45_does_1 : decode cX45_does 1 = .ok (.iload_n 2, 1) := dk_28 (dk_at dksX45_does_0 1 rfl rfl)
theorem dX45_does_2 : decode cX45_does 2 = .ok (.aload_n 1, 1) := dk_43 (dk_at dksX45_does_0 2 rfl rfl)
theorem dX45_does_3 : decode cX45_does 3 = .ok (.iload_n 3, 1) := dk_29 (dk_at dksX45_does_0 3 rfl rfl)
theorem dX45_does_4 : decode cX45_does 4 = .ok (.invokevirtual 7, 3) := dk_182 0 7 (dk_at dksX45_does_0 4 rfl rfl)
theorem dX45_does_7 : decode cX45_does 7 = .ok (.invokevirtual 13, 3) := dk_182 0 13 (dk_at dksX45_does_0 7 rfl rfl)
theorem dX45_does_10 : decode cX45_does 10 = .ok (.return_, 1) := dk_177 (dk_at dksX45_does_0 10 rfl rfl)
theorem q402 : (Jvm.Cond.selects "RankEntry$Op$8" ({ cls := "RankEntry$Op", name := "isFloat", desc := "()Z" } : Jvm.MethodName) ({ cls := "RankEntry$Op", name := "isFloat", desc := "()Z" } : Jvm.MethodName)) ∈ lw_all := lw_g (lw_at lw_m2 104 rfl) rfl
theorem q618 : (Jvm.Cond.selects "RankEntry$Op$8" ({ cls := "RankEntry$Op", name := "does", desc := "(LRankEntry$Core;II)V" } : Jvm.MethodName) ({ cls := "RankEntry$Op$8", name := "does", desc := "(LRankEntry$Core;II)V" } : Jvm.MethodName)) ∈ lw_all := lw_g (lw_at lw_m3 80 rfl) rfl
theorem q619 : (Jvm.Cond.instanceMethod ({ cls := "RankEntry$Op$8", name := "does", desc := "(LRankEntry$Core;II)V" } : Jvm.MethodName)) ∈ lw_all := lw_g (lw_at lw_m3 81 rfl) rfl
theorem q620 : (Jvm.Cond.code ({ cls := "RankEntry$Op$8", name := "does", desc := "(LRankEntry$Core;II)V" } : Jvm.MethodName) prog_43_method_2_code (4 : Nat) (Option.none : Option Jvm.ClassFile.FieldType)) ∈ lw_all := lw_g (lw_at lw_m3 82 rfl) rfl
theorem q621 : (Jvm.Cond.methodLink "RankEntry$Op$8" (7 : Nat) ({ cls := "RankEntry$Core", name := "reg", desc := "(I)I" } : Jvm.MethodName)) ∈ lw_all := lw_g (lw_at lw_m3 83 rfl) rfl
theorem q622 : (Jvm.Cond.methodLink "RankEntry$Op$8" (13 : Nat) ({ cls := "RankEntry$Core", name := "sets", desc := "(II)V" } : Jvm.MethodName)) ∈ lw_all := lw_g (lw_at lw_m3 84 rfl) rfl
theorem q1345 : (Jvm.Cond.selects "RankEntry$Op$8" ({ cls := "RankEntry$Op", name := "stops", desc := "()Z" } : Jvm.MethodName) ({ cls := "RankEntry$Op", name := "stops", desc := "()Z" } : Jvm.MethodName)) ∈ lw_all := lw_g (lw_at lw_m6 87 rfl) rfl
theorem q1378 : (Jvm.Cond.selects "RankEntry$Op$8" ({ cls := "RankEntry$Op", name := "ways", desc := "()I" } : Jvm.MethodName) ({ cls := "RankEntry$Op", name := "ways", desc := "()I" } : Jvm.MethodName)) ∈ lw_all := lw_g (lw_at lw_m6 120 rfl) rfl
theorem q1415 : (Jvm.Cond.selects "RankEntry$Op$8" ({ cls := "RankEntry$Op", name := "goesOn", desc := "()Z" } : Jvm.MethodName) ({ cls := "RankEntry$Op", name := "goesOn", desc := "()Z" } : Jvm.MethodName)) ∈ lw_all := lw_g (lw_at lw_m6 157 rfl) rfl
theorem q1454 : (Jvm.Cond.selects "RankEntry$Op$8" ({ cls := "RankEntry$Op", name := "jumps", desc := "()Z" } : Jvm.MethodName) ({ cls := "RankEntry$Op", name := "jumps", desc := "()Z" } : Jvm.MethodName)) ∈ lw_all := lw_g (lw_at lw_m6 196 rfl) rfl
theorem q1500 : (Jvm.Cond.selects "RankEntry$Op$8" ({ cls := "RankEntry$Op", name := "pushes", desc := "()I" } : Jvm.MethodName) ({ cls := "RankEntry$Op", name := "pushes", desc := "()I" } : Jvm.MethodName)) ∈ lw_all := lw_g (lw_at lw_m7 2 rfl) rfl
theorem q2172 : (Jvm.Cond.castable "RankEntry$Op$8" "java/lang/Object") ∈ lw_tbl := lw_at lw_m9 194 rfl
theorem q2219 : (Jvm.Cond.castable "RankEntry$Op$8" "RankEntry$Op") ∈ lw_tbl := lw_at lw_m10 1 rfl
/-! RankEntry$Op$9 -/
set_option maxRecDepth 100000
def RX46 : String := "RankEntry$Op$9"
abbrev cX46_does : ByteArray := prog_44_method_2_code
def yX46_does : MethodName := ⟨RX46, "does", "(LRankEntry$Core;II)V"⟩
def dkwX46_does_0 : List UInt8 := [43, 43, 28, 182, 0, 7, 182, 0, 13, 154, 0, 8, 43, 180, 0, 17, 191, 177]
abbrev dktX46_does_0 : List UInt8 := dkwX46_does_0 ++ []
theorem dksX46_does_0 : cX46_does.data.toList.drop 0 = dktX46_does_0 := by decide +kernel
theorem dX46_does_0 : decode cX46_does 0 = .ok (.aload_n 1, 1) := dk_43 (dk_at dksX46_does_0 0 rfl rfl)
theorem dX46_does_1 : decode cX46_does 1 = .ok (.aload_n 1, 1) := dk_43 (dk_at dksX46_does_0 1 rfl rfl)
theorem dX46_does_2 : decode cX46_does 2 = .ok (.iload_n 2, 1) := dk_28 (dk_at dksX46_does_0 2 rfl rfl)
theorem dX46_does_3 : decode cX46_does 3 = .ok (.invokevirtual 7, 3) := dk_182 0 7 (dk_at dksX46_does_0 3 rfl rfl)
theorem dX46_does_6 : decode cX46_does 6 = .ok (.invokevirtual 13, 3) := dk_182 0 13 (dk_at dksX46_does_0 6 rfl rfl)
theorem dX46_does_9 : decode cX46_does 9 = .ok (.ifCond .ne 8, 3) := dk_154 0 8 (dk_at dksX46_does_0 9 rfl rfl)
theorem dX46_does_12 : decode cX46_does 12 = .ok (.aload_n 1, 1) := dk_43 (dk_at dksX46_does_0 12 rfl rfl)
theorem dX46_does_13 : decode cX46_does 13 = .ok (.getfield 17, 3) := dk_180 0 17 (dk_at dksX46_does_0 13 rfl rfl)
theorem dX46_does_16 : decode cX46_does 16 = .ok (.athrow, 1) := dk_191 (dk_at dksX46_does_0 16 rfl rfl)
theorem dX46_does_17 : decode cX46_does 17 = .ok (.return_, 1) := dk_177 (dk_at dksX46_does_0 17 rfl rfl)
abbrev cX46_pushes : ByteArray := prog_44_method_3_code
def yX46_pushes : MethodName := ⟨RX46, "pushes", "()I"⟩
theorem dX46_pushes_0 : decode cX46_pushes 0 = .ok (.iconst 1, 1) := by decide +kernel
theorem dX46_pushes_1 : decode cX46_pushes 1 = .ok (.ireturn, 1) := by decide +kernel
theorem q403 : (Jvm.Cond.selects "RankEntry$Op$9" ({ cls := "RankEntry$Op", name := "isFloat", desc := "()Z" } : Jvm.MethodName) ({ cls := "RankEntry$Op", name := "isFloat", desc := "()Z" } : Jvm.MethodName)) ∈ lw_all := lw_g (lw_at lw_m2 105 rfl) rfl
theorem q623 : (Jvm.Cond.selects "RankEntry$Op$9" ({ cls := "RankEntry$Op", name := "does", desc := "(LRankEntry$Core;II)V" } : Jvm.MethodName) ({ cls := "RankEntry$Op$9", name := "does", desc := "(LRankEntry$Core;II)V" } : Jvm.MethodName)) ∈ lw_all := lw_g (lw_at lw_m3 85 rfl) rfl
theorem q624 : (Jvm.Cond.instanceMethod ({ cls := "RankEntry$Op$9", name := "does", desc := "(LRankEntry$Core;II)V" } : Jvm.MethodName)) ∈ lw_all := lw_g (lw_at lw_m3 86 rfl) rfl
theorem q625 : (Jvm.Cond.code ({ cls := "RankEntry$Op$9", name := "does", desc := "(LRankEntry$Core;II)V" } : Jvm.MethodName) prog_44_method_2_code (4 : Nat) (Option.none : Option Jvm.ClassFile.FieldType)) ∈ lw_all := lw_g (lw_at lw_m3 87 rfl) rfl
theorem q626 : (Jvm.Cond.methodLink "RankEntry$Op$9" (7 : Nat) ({ cls := "RankEntry$Core", name := "reg", desc := "(I)I" } : Jvm.MethodName)) ∈ lw_all := lw_g (lw_at lw_m3 88 rfl) rfl
theorem q627 : (Jvm.Cond.methodLink "RankEntry$Op$9" (13 : Nat) ({ cls := "RankEntry$Core", name := "pushes", desc := "(I)Z" } : Jvm.MethodName)) ∈ lw_all := lw_g (lw_at lw_m3 89 rfl) rfl
theorem q832 : (Jvm.Cond.fieldLinkNest "RankEntry$Op$9" (17 : Nat) "RankEntry$Core" "full" "LRankEntry$Trap;" "RankEntry") ∈ lw_tbl := lw_at lw_m4 54 rfl
theorem q1346 : (Jvm.Cond.selects "RankEntry$Op$9" ({ cls := "RankEntry$Op", name := "stops", desc := "()Z" } : Jvm.MethodName) ({ cls := "RankEntry$Op", name := "stops", desc := "()Z" } : Jvm.MethodName)) ∈ lw_all := lw_g (lw_at lw_m6 88 rfl) rfl
theorem q1379 : (Jvm.Cond.selects "RankEntry$Op$9" ({ cls := "RankEntry$Op", name := "ways", desc := "()I" } : Jvm.MethodName) ({ cls := "RankEntry$Op", name := "ways", desc := "()I" } : Jvm.MethodName)) ∈ lw_all := lw_g (lw_at lw_m6 121 rfl) rfl
theorem q1416 : (Jvm.Cond.selects "RankEntry$Op$9" ({ cls := "RankEntry$Op", name := "goesOn", desc := "()Z" } : Jvm.MethodName) ({ cls := "RankEntry$Op", name := "goesOn", desc := "()Z" } : Jvm.MethodName)) ∈ lw_all := lw_g (lw_at lw_m6 158 rfl) rfl
theorem q1455 : (Jvm.Cond.selects "RankEntry$Op$9" ({ cls := "RankEntry$Op", name := "jumps", desc := "()Z" } : Jvm.MethodName) ({ cls := "RankEntry$Op", name := "jumps", desc := "()Z" } : Jvm.MethodName)) ∈ lw_all := lw_g (lw_at lw_m6 197 rfl) rfl
theorem q1501 : (Jvm.Cond.selects "RankEntry$Op$9" ({ cls := "RankEntry$Op", name := "pushes", desc := "()I" } : Jvm.MethodName) ({ cls := "RankEntry$Op$9", name := "pushes", desc := "()I" } : Jvm.MethodName)) ∈ lw_all := lw_g (lw_at lw_m7 3 rfl) rfl
theorem q1502 : (Jvm.Cond.instanceMethod ({ cls := "RankEntry$Op$9", name := "pushes", desc := "()I" } : Jvm.MethodName)) ∈ lw_all := lw_g (lw_at lw_m7 4 rfl) rfl
theorem q1503 : (Jvm.Cond.code ({ cls := "RankEntry$Op$9", name := "pushes", desc := "()I" } : Jvm.MethodName) prog_44_method_3_code (1 : Nat) (Option.some Jvm.ClassFile.FieldType.int)) ∈ lw_all := lw_g (lw_at lw_m7 5 rfl) rfl
theorem q2173 : (Jvm.Cond.castable "RankEntry$Op$9" "java/lang/Object") ∈ lw_tbl := lw_at lw_m9 195 rfl
theorem q2220 : (Jvm.Cond.castable "RankEntry$Op$9" "RankEntry$Op") ∈ lw_tbl := lw_at lw_m10 2 rfl
/-! RankEntry$Trap -/
set_option maxRecDepth 100000
def RX5 : String := "RankEntry$Trap"
def TX5 : u_T := fun k => match k with
  | 0 => ("java/lang/Throwable", "cause", "Ljava/lang/Throwable;", false)
  | 1 => ("java/lang/Throwable", "stackTrace", "[Ljava/lang/StackTraceElement;", false)
  | 2 => ("java/lang/Throwable", "suppressedExceptions", "Ljava/util/List;", false)
  | 3 => ("java/lang/Throwable", "detailMessage", "Ljava/lang/String;", false)
  | 4 => ("java/lang/Throwable", "backtrace", "Ljava/lang/Object;", false)
  | 5 => ("java/lang/Throwable", "depth", "I", false)
  | _ => ("RankEntry$Trap", "fault", "I", true)
def tyX5 : Nat → FieldType := fun k => match k with
  | 0 => .object "java/lang/Throwable"
  | 1 => .array (.object "java/lang/StackTraceElement")
  | 2 => .object "java/util/List"
  | 3 => .object "java/lang/String"
  | 4 => .object "java/lang/Object"
  | 5 => .int
  | _ => .int
abbrev wsX50 : List Cond := u_ws RX5 TX5 7
theorem nmX5 : ∀ a, a < 7 → ∀ b, b < 7 → a ≠ b → (TX5 a).2.1 ≠ (TX5 b).2.1 := by decide +kernel
theorem tyX5_ok : ∀ k, k < 7 → parseFieldDescriptor (TX5 k).2.2.1 = some (tyX5 k) := by decide +kernel
abbrev cX5_init : ByteArray := prog_49_method_1_code
def yX5_init : MethodName := ⟨RX5, "<init>", "(I)V"⟩
def dkwX5_init_0 : List UInt8 := [42, 183, 0, 1, 42, 27, 181, 0, 7, 177]
abbrev dktX5_init_0 : List UInt8 := dkwX5_init_0 ++ []
theorem dksX5_init_0 : cX5_init.data.toList.drop 0 = dktX5_init_0 := by decide +kernel
theorem dX5_init_0 : decode cX5_init 0 = .ok (.aload_n 0, 1) := dk_42 (dk_at dksX5_init_0 0 rfl rfl)
theorem dX5_init_1 : decode cX5_init 1 = .ok (.invokespecial 1, 3) := dk_183 0 1 (dk_at dksX5_init_0 1 rfl rfl)
theorem dX5_init_4 : decode cX5_init 4 = .ok (.aload_n 0, 1) := dk_42 (dk_at dksX5_init_0 4 rfl rfl)
theorem dX5_init_5 : decode cX5_init 5 = .ok (.iload_n 1, 1) := dk_27 (dk_at dksX5_init_0 5 rfl rfl)
theorem dX5_init_6 : decode cX5_init 6 = .ok (.putfield 7, 3) := dk_181 0 7 (dk_at dksX5_init_0 6 rfl rfl)
theorem dX5_init_9 : decode cX5_init 9 = .ok (.return_, 1) := dk_177 (dk_at dksX5_init_0 9 rfl rfl)
theorem q66 : (Jvm.Cond.initialized "RankEntry$Trap") ∈ lw_all := lw_g (lw_at lw_m1 8 rfl) rfl
theorem q134 : (Jvm.Cond.instantiable "RankEntry$Trap" (7 : Nat)) ∈ lw_all := lw_g (lw_at lw_m1 76 rfl) rfl
theorem q135 : (Jvm.Cond.castable "RankEntry$Trap" "RankEntry$Trap") ∈ lw_tbl := lw_at lw_m1 77 rfl
theorem q140 : (Jvm.Cond.selects "RankEntry$Trap" ({ cls := "java/lang/Throwable", name := "fillInStackTrace", desc := "(I)Ljava/lang/Throwable;" } : Jvm.MethodName) ({ cls := "java/lang/Throwable", name := "fillInStackTrace", desc := "(I)Ljava/lang/Throwable;" } : Jvm.MethodName)) ∈ lw_all := lw_g (lw_at lw_m1 82 rfl) rfl
theorem q141 : (Jvm.Cond.selects "RankEntry$Trap" ({ cls := "java/lang/Throwable", name := "fillInStackTrace", desc := "()Ljava/lang/Throwable;" } : Jvm.MethodName) ({ cls := "java/lang/Throwable", name := "fillInStackTrace", desc := "()Ljava/lang/Throwable;" } : Jvm.MethodName)) ∈ lw_all := lw_g (lw_at lw_m1 83 rfl) rfl
theorem q142 : (Jvm.Cond.lays "RankEntry$Trap" "java/lang/Throwable" "cause" "Ljava/lang/Throwable;") ∈ lw_all := lw_g (lw_at lw_m1 84 rfl) rfl
theorem q144 : (Jvm.Cond.lays "RankEntry$Trap" "java/lang/Throwable" "stackTrace" "[Ljava/lang/StackTraceElement;") ∈ lw_all := lw_g (lw_at lw_m1 86 rfl) rfl
theorem q146 : (Jvm.Cond.lays "RankEntry$Trap" "java/lang/Throwable" "suppressedExceptions" "Ljava/util/List;") ∈ lw_all := lw_g (lw_at lw_m1 88 rfl) rfl
theorem q148 : (Jvm.Cond.lays "RankEntry$Trap" "java/lang/Throwable" "detailMessage" "Ljava/lang/String;") ∈ lw_all := lw_g (lw_at lw_m1 90 rfl) rfl
theorem q150 : (Jvm.Cond.lays "RankEntry$Trap" "java/lang/Throwable" "backtrace" "Ljava/lang/Object;") ∈ lw_all := lw_g (lw_at lw_m1 92 rfl) rfl
theorem q174 : (Jvm.Cond.instanceMethod ({ cls := "RankEntry$Trap", name := "<init>", desc := "(I)V" } : Jvm.MethodName)) ∈ lw_all := lw_g (lw_at lw_m1 116 rfl) rfl
theorem q175 : (Jvm.Cond.code ({ cls := "RankEntry$Trap", name := "<init>", desc := "(I)V" } : Jvm.MethodName) prog_49_method_1_code (2 : Nat) (Option.none : Option Jvm.ClassFile.FieldType)) ∈ lw_all := lw_g (lw_at lw_m1 117 rfl) rfl
theorem q176 : (Jvm.Cond.methodLink "RankEntry$Trap" (1 : Nat) ({ cls := "java/lang/Exception", name := "<init>", desc := "()V" } : Jvm.MethodName)) ∈ lw_all := lw_g (lw_at lw_m1 118 rfl) rfl
theorem q180 : (Jvm.Cond.fieldLink "RankEntry$Trap" (7 : Nat) "RankEntry$Trap" "fault" "I") ∈ lw_all := lw_g (lw_at lw_m1 122 rfl) rfl
theorem q187 : (Jvm.Cond.laysFinal "RankEntry$Trap" "RankEntry$Trap" "fault" "I") ∈ lw_all := lw_g (lw_at lw_m1 129 rfl) rfl
theorem q188 : (Jvm.Cond.soleField "RankEntry$Trap" "fault") ∈ lw_all := lw_g (lw_at lw_m1 130 rfl) rfl
theorem q193 : (Jvm.Cond.lays "RankEntry$Trap" "java/lang/Throwable" "depth" "I") ∈ lw_all := lw_g (lw_at lw_m1 135 rfl) rfl
theorem q196 : (Jvm.Cond.superclass "RankEntry$Trap" "java/lang/Exception") ∈ lw_all := lw_g (lw_at lw_m1 138 rfl) rfl
theorem q2195 : (Jvm.Cond.castable "RankEntry$Trap" "java/lang/Object") ∈ lw_tbl := lw_at lw_m9 217 rfl
theorem in_X5 : ∀ w ∈ wsX50, w ∈ lw_all := lw_in wsX50 [142, 144, 146, 148, 150, 193, 187] (by decide +kernel) (by decide +kernel)
/-! RankEntry$Raised -/
set_option maxRecDepth 100000
def RX6 : String := "RankEntry$Raised"
def TX6 : u_T := fun k => match k with
  | 0 => ("RankEntry$Raised", "source", "I", true)
  | 1 => ("RankEntry$Raised", "clock", "I", true)
  | _ => ("RankEntry$Raised", "more", "I", true)
def tyX6 : Nat → FieldType := fun k => match k with
  | 0 => .int
  | 1 => .int
  | _ => .int
abbrev wsX60 : List Cond := u_ws RX6 TX6 3
theorem nmX6 : ∀ a, a < 3 → ∀ b, b < 3 → a ≠ b → (TX6 a).2.1 ≠ (TX6 b).2.1 := by decide +kernel
theorem tyX6_ok : ∀ k, k < 3 → parseFieldDescriptor (TX6 k).2.2.1 = some (tyX6 k) := by decide +kernel
abbrev cX6_init : ByteArray := prog_46_method_1_code
def yX6_init : MethodName := ⟨RX6, "<init>", "(III)V"⟩
def dkwX6_init_0 : List UInt8 := [42, 183, 0, 1, 42, 27, 181, 0, 7, 42, 28, 181, 0, 13, 42, 29, 181, 0, 16, 177]
abbrev dktX6_init_0 : List UInt8 := dkwX6_init_0 ++ []
theorem dksX6_init_0 : cX6_init.data.toList.drop 0 = dktX6_init_0 := by decide +kernel
theorem dX6_init_0 : decode cX6_init 0 = .ok (.aload_n 0, 1) := dk_42 (dk_at dksX6_init_0 0 rfl rfl)
theorem dX6_init_1 : decode cX6_init 1 = .ok (.invokespecial 1, 3) := dk_183 0 1 (dk_at dksX6_init_0 1 rfl rfl)
theorem dX6_init_4 : decode cX6_init 4 = .ok (.aload_n 0, 1) := dk_42 (dk_at dksX6_init_0 4 rfl rfl)
theorem dX6_init_5 : decode cX6_init 5 = .ok (.iload_n 1, 1) := dk_27 (dk_at dksX6_init_0 5 rfl rfl)
theorem dX6_init_6 : decode cX6_init 6 = .ok (.putfield 7, 3) := dk_181 0 7 (dk_at dksX6_init_0 6 rfl rfl)
theorem dX6_init_9 : decode cX6_init 9 = .ok (.aload_n 0, 1) := dk_42 (dk_at dksX6_init_0 9 rfl rfl)
theorem dX6_init_10 : decode cX6_init 10 = .ok (.iload_n 2, 1) := dk_28 (dk_at dksX6_init_0 10 rfl rfl)
theorem dX6_init_11 : decode cX6_init 11 = .ok (.putfield 13, 3) := dk_181 0 13 (dk_at dksX6_init_0 11 rfl rfl)
theorem dX6_init_14 : decode cX6_init 14 = .ok (.aload_n 0, 1) := dk_42 (dk_at dksX6_init_0 14 rfl rfl)
theorem dX6_init_15 : decode cX6_init 15 = .ok (.iload_n 3, 1) := dk_29 (dk_at dksX6_init_0 15 rfl rfl)
theorem dX6_init_16 : decode cX6_init 16 = .ok (.putfield 16, 3) := dk_181 0 16 (dk_at dksX6_init_0 16 rfl rfl)
theorem dX6_init_19 : decode cX6_init 19 = .ok (.return_, 1) := dk_177 (dk_at dksX6_init_0 19 rfl rfl)
abbrev cX6_source : ByteArray := prog_46_method_5_code
def yX6_source : MethodName := ⟨RX6, "source", "()I"⟩
theorem dX6_source_0 : decode cX6_source 0 = .ok (.aload_n 0, 1) := by decide +kernel
theorem dX6_source_1 : decode cX6_source 1 = .ok (.getfield 7, 3) := by decide +kernel
theorem dX6_source_4 : decode cX6_source 4 = .ok (.ireturn, 1) := by decide +kernel
abbrev cX6_clock : ByteArray := prog_46_method_6_code
def yX6_clock : MethodName := ⟨RX6, "clock", "()I"⟩
theorem dX6_clock_0 : decode cX6_clock 0 = .ok (.aload_n 0, 1) := by decide +kernel
theorem dX6_clock_1 : decode cX6_clock 1 = .ok (.getfield 13, 3) := by decide +kernel
theorem dX6_clock_4 : decode cX6_clock 4 = .ok (.ireturn, 1) := by decide +kernel
abbrev cX6_more : ByteArray := prog_46_method_7_code
def yX6_more : MethodName := ⟨RX6, "more", "()I"⟩
theorem dX6_more_0 : decode cX6_more 0 = .ok (.aload_n 0, 1) := by decide +kernel
theorem dX6_more_1 : decode cX6_more 1 = .ok (.getfield 16, 3) := by decide +kernel
theorem dX6_more_4 : decode cX6_more 4 = .ok (.ireturn, 1) := by decide +kernel
theorem q68 : (Jvm.Cond.initialized "RankEntry$Raised") ∈ lw_all := lw_g (lw_at lw_m1 10 rfl) rfl
theorem q263 : (Jvm.Cond.instantiable "RankEntry$Raised" (3 : Nat)) ∈ lw_all := lw_g (lw_at lw_m1 205 rfl) rfl
theorem q265 : (Jvm.Cond.instanceMethod ({ cls := "RankEntry$Raised", name := "<init>", desc := "(III)V" } : Jvm.MethodName)) ∈ lw_all := lw_g (lw_at lw_m1 207 rfl) rfl
theorem q266 : (Jvm.Cond.code ({ cls := "RankEntry$Raised", name := "<init>", desc := "(III)V" } : Jvm.MethodName) prog_46_method_1_code (4 : Nat) (Option.none : Option Jvm.ClassFile.FieldType)) ∈ lw_all := lw_g (lw_at lw_m1 208 rfl) rfl
theorem q267 : (Jvm.Cond.methodLink "RankEntry$Raised" (1 : Nat) ({ cls := "java/lang/Record", name := "<init>", desc := "()V" } : Jvm.MethodName)) ∈ lw_all := lw_g (lw_at lw_m1 209 rfl) rfl
theorem q271 : (Jvm.Cond.fieldLink "RankEntry$Raised" (7 : Nat) "RankEntry$Raised" "source" "I") ∈ lw_all := lw_g (lw_at lw_m1 213 rfl) rfl
theorem q272 : (Jvm.Cond.fieldLink "RankEntry$Raised" (13 : Nat) "RankEntry$Raised" "clock" "I") ∈ lw_all := lw_g (lw_at lw_m1 214 rfl) rfl
theorem q273 : (Jvm.Cond.fieldLink "RankEntry$Raised" (16 : Nat) "RankEntry$Raised" "more" "I") ∈ lw_all := lw_g (lw_at lw_m1 215 rfl) rfl
theorem q274 : (Jvm.Cond.laysFinal "RankEntry$Raised" "RankEntry$Raised" "source" "I") ∈ lw_all := lw_g (lw_at lw_m1 216 rfl) rfl
theorem q275 : (Jvm.Cond.soleField "RankEntry$Raised" "source") ∈ lw_all := lw_g (lw_at lw_m1 217 rfl) rfl
theorem q276 : (Jvm.Cond.laysFinal "RankEntry$Raised" "RankEntry$Raised" "clock" "I") ∈ lw_all := lw_g (lw_at lw_m1 218 rfl) rfl
theorem q277 : (Jvm.Cond.soleField "RankEntry$Raised" "clock") ∈ lw_all := lw_g (lw_at lw_m1 219 rfl) rfl
theorem q278 : (Jvm.Cond.laysFinal "RankEntry$Raised" "RankEntry$Raised" "more" "I") ∈ lw_all := lw_g (lw_at lw_m1 220 rfl) rfl
theorem q279 : (Jvm.Cond.soleField "RankEntry$Raised" "more") ∈ lw_all := lw_g (lw_at lw_m1 221 rfl) rfl
theorem q280 : (Jvm.Cond.superclass "RankEntry$Raised" "java/lang/Record") ∈ lw_all := lw_g (lw_at lw_m1 222 rfl) rfl
theorem q1652 : (Jvm.Cond.castable "RankEntry$Raised" "RankEntry$Event") ∈ lw_tbl := lw_at lw_m7 154 rfl
theorem q1653 : (Jvm.Cond.selects "RankEntry$Raised" ({ cls := "RankEntry$Event", name := "source", desc := "()I" } : Jvm.MethodName) ({ cls := "RankEntry$Raised", name := "source", desc := "()I" } : Jvm.MethodName)) ∈ lw_all := lw_g (lw_at lw_m7 155 rfl) rfl
theorem q1654 : (Jvm.Cond.unhidden "RankEntry$Raised" "source" "()I") ∈ lw_tbl := lw_at lw_m7 156 rfl
theorem q1655 : (Jvm.Cond.instanceMethod ({ cls := "RankEntry$Raised", name := "source", desc := "()I" } : Jvm.MethodName)) ∈ lw_all := lw_g (lw_at lw_m7 157 rfl) rfl
theorem q1656 : (Jvm.Cond.publicMethod ({ cls := "RankEntry$Raised", name := "source", desc := "()I" } : Jvm.MethodName)) ∈ lw_tbl := lw_at lw_m7 158 rfl
theorem q1657 : (Jvm.Cond.code ({ cls := "RankEntry$Raised", name := "source", desc := "()I" } : Jvm.MethodName) prog_46_method_5_code (1 : Nat) (Option.some Jvm.ClassFile.FieldType.int)) ∈ lw_all := lw_g (lw_at lw_m7 159 rfl) rfl
theorem q1683 : (Jvm.Cond.selects "RankEntry$Raised" ({ cls := "RankEntry$Event", name := "clock", desc := "()I" } : Jvm.MethodName) ({ cls := "RankEntry$Raised", name := "clock", desc := "()I" } : Jvm.MethodName)) ∈ lw_all := lw_g (lw_at lw_m7 185 rfl) rfl
theorem q1684 : (Jvm.Cond.unhidden "RankEntry$Raised" "clock" "()I") ∈ lw_tbl := lw_at lw_m7 186 rfl
theorem q1685 : (Jvm.Cond.instanceMethod ({ cls := "RankEntry$Raised", name := "clock", desc := "()I" } : Jvm.MethodName)) ∈ lw_all := lw_g (lw_at lw_m7 187 rfl) rfl
theorem q1686 : (Jvm.Cond.publicMethod ({ cls := "RankEntry$Raised", name := "clock", desc := "()I" } : Jvm.MethodName)) ∈ lw_tbl := lw_at lw_m7 188 rfl
theorem q1687 : (Jvm.Cond.code ({ cls := "RankEntry$Raised", name := "clock", desc := "()I" } : Jvm.MethodName) prog_46_method_6_code (1 : Nat) (Option.some Jvm.ClassFile.FieldType.int)) ∈ lw_all := lw_g (lw_at lw_m7 189 rfl) rfl
theorem q1712 : (Jvm.Cond.selects "RankEntry$Raised" ({ cls := "RankEntry$Event", name := "more", desc := "()I" } : Jvm.MethodName) ({ cls := "RankEntry$Raised", name := "more", desc := "()I" } : Jvm.MethodName)) ∈ lw_all := lw_g (lw_at lw_m7 214 rfl) rfl
theorem q1713 : (Jvm.Cond.unhidden "RankEntry$Raised" "more" "()I") ∈ lw_tbl := lw_at lw_m7 215 rfl
theorem q1714 : (Jvm.Cond.instanceMethod ({ cls := "RankEntry$Raised", name := "more", desc := "()I" } : Jvm.MethodName)) ∈ lw_all := lw_g (lw_at lw_m7 216 rfl) rfl
theorem q1715 : (Jvm.Cond.publicMethod ({ cls := "RankEntry$Raised", name := "more", desc := "()I" } : Jvm.MethodName)) ∈ lw_tbl := lw_at lw_m7 217 rfl
theorem q1716 : (Jvm.Cond.code ({ cls := "RankEntry$Raised", name := "more", desc := "()I" } : Jvm.MethodName) prog_46_method_7_code (1 : Nat) (Option.some Jvm.ClassFile.FieldType.int)) ∈ lw_all := lw_g (lw_at lw_m7 218 rfl) rfl
theorem q2196 : (Jvm.Cond.castable "RankEntry$Raised" "java/lang/Object") ∈ lw_tbl := lw_at lw_m9 218 rfl
theorem in_X6 : ∀ w ∈ wsX60, w ∈ lw_all := lw_in wsX60 [274, 276, 278] (by decide +kernel) (by decide +kernel)
/-! RankEntry$Began -/
set_option maxRecDepth 100000
def RX7 : String := "RankEntry$Began"
def TX7 : u_T := fun k => match k with
  | 0 => ("RankEntry$Began", "source", "I", true)
  | 1 => ("RankEntry$Began", "clock", "I", true)
  | 2 => ("RankEntry$Began", "more", "I", true)
  | _ => ("RankEntry$Began", "chained", "Z", true)
def tyX7 : Nat → FieldType := fun k => match k with
  | 0 => .int
  | 1 => .int
  | 2 => .int
  | _ => .boolean
abbrev wsX70 : List Cond := u_ws RX7 TX7 4
theorem nmX7 : ∀ a, a < 4 → ∀ b, b < 4 → a ≠ b → (TX7 a).2.1 ≠ (TX7 b).2.1 := by decide +kernel
theorem tyX7_ok : ∀ k, k < 4 → parseFieldDescriptor (TX7 k).2.2.1 = some (tyX7 k) := by decide +kernel
abbrev cX7_init : ByteArray := prog_4_method_1_code
def yX7_init : MethodName := ⟨RX7, "<init>", "(IIIZ)V"⟩
def dkwX7_init_1 : List UInt8 := [181, 0, 19, 177]
abbrev dktX7_init_1 : List UInt8 := dkwX7_init_1 ++ []
def dkwX7_init_0 : List UInt8 := [42, 183, 0, 1, 42, 27, 181, 0, 7, 42, 28, 181, 0, 13, 42, 29, 181, 0, 16, 42, 21, 4]
abbrev dktX7_init_0 : List UInt8 := dkwX7_init_0 ++ dktX7_init_1
theorem dksX7_init_0 : cX7_init.data.toList.drop 0 = dktX7_init_0 := by decide +kernel
theorem dksX7_init_1 : cX7_init.data.toList.drop 22 = dktX7_init_1 := dk_seg dksX7_init_0 22 rfl rfl
theorem dX7_init_0 : decode cX7_init 0 = .ok (.aload_n 0, 1) := dk_42 (dk_at dksX7_init_0 0 rfl rfl)
theorem dX7_init_1 : decode cX7_init 1 = .ok (.invokespecial 1, 3) := dk_183 0 1 (dk_at dksX7_init_0 1 rfl rfl)
theorem dX7_init_4 : decode cX7_init 4 = .ok (.aload_n 0, 1) := dk_42 (dk_at dksX7_init_0 4 rfl rfl)
theorem dX7_init_5 : decode cX7_init 5 = .ok (.iload_n 1, 1) := dk_27 (dk_at dksX7_init_0 5 rfl rfl)
theorem dX7_init_6 : decode cX7_init 6 = .ok (.putfield 7, 3) := dk_181 0 7 (dk_at dksX7_init_0 6 rfl rfl)
theorem dX7_init_9 : decode cX7_init 9 = .ok (.aload_n 0, 1) := dk_42 (dk_at dksX7_init_0 9 rfl rfl)
theorem dX7_init_10 : decode cX7_init 10 = .ok (.iload_n 2, 1) := dk_28 (dk_at dksX7_init_0 10 rfl rfl)
theorem dX7_init_11 : decode cX7_init 11 = .ok (.putfield 13, 3) := dk_181 0 13 (dk_at dksX7_init_0 11 rfl rfl)
theorem dX7_init_14 : decode cX7_init 14 = .ok (.aload_n 0, 1) := dk_42 (dk_at dksX7_init_0 14 rfl rfl)
theorem dX7_init_15 : decode cX7_init 15 = .ok (.iload_n 3, 1) := dk_29 (dk_at dksX7_init_0 15 rfl rfl)
theorem dX7_init_16 : decode cX7_init 16 = .ok (.putfield 16, 3) := dk_181 0 16 (dk_at dksX7_init_0 16 rfl rfl)
theorem dX7_init_19 : decode cX7_init 19 = .ok (.aload_n 0, 1) := dk_42 (dk_at dksX7_init_0 19 rfl rfl)
theorem dX7_init_20 : decode cX7_init 20 = .ok (.iload 4, 2) := dk_21 4 (dk_at dksX7_init_0 20 rfl rfl)
theorem dX7_init_22 : decode cX7_init 22 = .ok (.putfield 19, 3) := dk_181 0 19 (dk_at dksX7_init_1 0 rfl rfl)
theorem dX7_init_25 : decode cX7_init 25 = .ok (.return_, 1) := dk_177 (dk_at dksX7_init_1 3 rfl rfl)
abbrev cX7_chained : ByteArray := prog_4_method_8_code
def yX7_chained : MethodName := ⟨RX7, "chained", "()Z"⟩
theorem dX7_chained_0 : decode cX7_chained 0 = .ok (.aload_n 0, 1) := by decide +kernel
theorem dX7_chained_1 : decode cX7_chained 1 = .ok (.getfield 19, 3) := by decide +kernel
theorem dX7_chained_4 : decode cX7_chained 4 = .ok (.ireturn, 1) := by decide +kernel
abbrev cX7_source : ByteArray := prog_4_method_5_code
def yX7_source : MethodName := ⟨RX7, "source", "()I"⟩
theorem dX7_source_0 : decode cX7_source 0 = .ok (.aload_n 0, 1) := by decide +kernel
theorem dX7_source_1 : decode cX7_source 1 = .ok (.getfield 7, 3) := by decide +kernel
theorem dX7_source_4 : decode cX7_source 4 = .ok (.ireturn, 1) := by decide +kernel
abbrev cX7_clock : ByteArray := prog_4_method_6_code
def yX7_clock : MethodName := ⟨RX7, "clock", "()I"⟩
theorem dX7_clock_0 : decode cX7_clock 0 = .ok (.aload_n 0, 1) := by decide +kernel
theorem dX7_clock_1 : decode cX7_clock 1 = .ok (.getfield 13, 3) := by decide +kernel
theorem dX7_clock_4 : decode cX7_clock 4 = .ok (.ireturn, 1) := by decide +kernel
abbrev cX7_more : ByteArray := prog_4_method_7_code
def yX7_more : MethodName := ⟨RX7, "more", "()I"⟩
theorem dX7_more_0 : decode cX7_more 0 = .ok (.aload_n 0, 1) := by decide +kernel
theorem dX7_more_1 : decode cX7_more 1 = .ok (.getfield 16, 3) := by decide +kernel
theorem dX7_more_4 : decode cX7_more 4 = .ok (.ireturn, 1) := by decide +kernel
theorem q69 : (Jvm.Cond.initialized "RankEntry$Began") ∈ lw_all := lw_g (lw_at lw_m1 11 rfl) rfl
theorem q328 : (Jvm.Cond.instantiable "RankEntry$Began" (4 : Nat)) ∈ lw_all := lw_g (lw_at lw_m2 30 rfl) rfl
theorem q330 : (Jvm.Cond.instanceMethod ({ cls := "RankEntry$Began", name := "<init>", desc := "(IIIZ)V" } : Jvm.MethodName)) ∈ lw_all := lw_g (lw_at lw_m2 32 rfl) rfl
theorem q331 : (Jvm.Cond.code ({ cls := "RankEntry$Began", name := "<init>", desc := "(IIIZ)V" } : Jvm.MethodName) prog_4_method_1_code (5 : Nat) (Option.none : Option Jvm.ClassFile.FieldType)) ∈ lw_all := lw_g (lw_at lw_m2 33 rfl) rfl
theorem q332 : (Jvm.Cond.methodLink "RankEntry$Began" (1 : Nat) ({ cls := "java/lang/Record", name := "<init>", desc := "()V" } : Jvm.MethodName)) ∈ lw_all := lw_g (lw_at lw_m2 34 rfl) rfl
theorem q333 : (Jvm.Cond.fieldLink "RankEntry$Began" (7 : Nat) "RankEntry$Began" "source" "I") ∈ lw_all := lw_g (lw_at lw_m2 35 rfl) rfl
theorem q334 : (Jvm.Cond.fieldLink "RankEntry$Began" (13 : Nat) "RankEntry$Began" "clock" "I") ∈ lw_all := lw_g (lw_at lw_m2 36 rfl) rfl
theorem q335 : (Jvm.Cond.fieldLink "RankEntry$Began" (16 : Nat) "RankEntry$Began" "more" "I") ∈ lw_all := lw_g (lw_at lw_m2 37 rfl) rfl
theorem q336 : (Jvm.Cond.fieldLink "RankEntry$Began" (19 : Nat) "RankEntry$Began" "chained" "Z") ∈ lw_all := lw_g (lw_at lw_m2 38 rfl) rfl
theorem q337 : (Jvm.Cond.laysFinal "RankEntry$Began" "RankEntry$Began" "source" "I") ∈ lw_all := lw_g (lw_at lw_m2 39 rfl) rfl
theorem q338 : (Jvm.Cond.soleField "RankEntry$Began" "source") ∈ lw_all := lw_g (lw_at lw_m2 40 rfl) rfl
theorem q339 : (Jvm.Cond.laysFinal "RankEntry$Began" "RankEntry$Began" "clock" "I") ∈ lw_all := lw_g (lw_at lw_m2 41 rfl) rfl
theorem q340 : (Jvm.Cond.soleField "RankEntry$Began" "clock") ∈ lw_all := lw_g (lw_at lw_m2 42 rfl) rfl
theorem q341 : (Jvm.Cond.laysFinal "RankEntry$Began" "RankEntry$Began" "more" "I") ∈ lw_all := lw_g (lw_at lw_m2 43 rfl) rfl
theorem q342 : (Jvm.Cond.soleField "RankEntry$Began" "more") ∈ lw_all := lw_g (lw_at lw_m2 44 rfl) rfl
theorem q343 : (Jvm.Cond.laysFinal "RankEntry$Began" "RankEntry$Began" "chained" "Z") ∈ lw_all := lw_g (lw_at lw_m2 45 rfl) rfl
theorem q344 : (Jvm.Cond.soleField "RankEntry$Began" "chained") ∈ lw_all := lw_g (lw_at lw_m2 46 rfl) rfl
theorem q345 : (Jvm.Cond.superclass "RankEntry$Began" "java/lang/Record") ∈ lw_all := lw_g (lw_at lw_m2 47 rfl) rfl
theorem q1624 : (Jvm.Cond.instanceMethod ({ cls := "RankEntry$Began", name := "chained", desc := "()Z" } : Jvm.MethodName)) ∈ lw_all := lw_g (lw_at lw_m7 126 rfl) rfl
theorem q1625 : (Jvm.Cond.selects "RankEntry$Began" ({ cls := "RankEntry$Began", name := "chained", desc := "()Z" } : Jvm.MethodName) ({ cls := "RankEntry$Began", name := "chained", desc := "()Z" } : Jvm.MethodName)) ∈ lw_all := lw_g (lw_at lw_m7 127 rfl) rfl
theorem q1626 : (Jvm.Cond.code ({ cls := "RankEntry$Began", name := "chained", desc := "()Z" } : Jvm.MethodName) prog_4_method_8_code (1 : Nat) (Option.some Jvm.ClassFile.FieldType.boolean)) ∈ lw_all := lw_g (lw_at lw_m7 128 rfl) rfl
theorem q1640 : (Jvm.Cond.castable "RankEntry$Began" "RankEntry$Event") ∈ lw_tbl := lw_at lw_m7 142 rfl
theorem q1641 : (Jvm.Cond.selects "RankEntry$Began" ({ cls := "RankEntry$Event", name := "source", desc := "()I" } : Jvm.MethodName) ({ cls := "RankEntry$Began", name := "source", desc := "()I" } : Jvm.MethodName)) ∈ lw_all := lw_g (lw_at lw_m7 143 rfl) rfl
theorem q1642 : (Jvm.Cond.unhidden "RankEntry$Began" "source" "()I") ∈ lw_tbl := lw_at lw_m7 144 rfl
theorem q1643 : (Jvm.Cond.instanceMethod ({ cls := "RankEntry$Began", name := "source", desc := "()I" } : Jvm.MethodName)) ∈ lw_all := lw_g (lw_at lw_m7 145 rfl) rfl
theorem q1644 : (Jvm.Cond.publicMethod ({ cls := "RankEntry$Began", name := "source", desc := "()I" } : Jvm.MethodName)) ∈ lw_tbl := lw_at lw_m7 146 rfl
theorem q1645 : (Jvm.Cond.code ({ cls := "RankEntry$Began", name := "source", desc := "()I" } : Jvm.MethodName) prog_4_method_5_code (1 : Nat) (Option.some Jvm.ClassFile.FieldType.int)) ∈ lw_all := lw_g (lw_at lw_m7 147 rfl) rfl
theorem q1673 : (Jvm.Cond.selects "RankEntry$Began" ({ cls := "RankEntry$Event", name := "clock", desc := "()I" } : Jvm.MethodName) ({ cls := "RankEntry$Began", name := "clock", desc := "()I" } : Jvm.MethodName)) ∈ lw_all := lw_g (lw_at lw_m7 175 rfl) rfl
theorem q1674 : (Jvm.Cond.unhidden "RankEntry$Began" "clock" "()I") ∈ lw_tbl := lw_at lw_m7 176 rfl
theorem q1675 : (Jvm.Cond.instanceMethod ({ cls := "RankEntry$Began", name := "clock", desc := "()I" } : Jvm.MethodName)) ∈ lw_all := lw_g (lw_at lw_m7 177 rfl) rfl
theorem q1676 : (Jvm.Cond.publicMethod ({ cls := "RankEntry$Began", name := "clock", desc := "()I" } : Jvm.MethodName)) ∈ lw_tbl := lw_at lw_m7 178 rfl
theorem q1677 : (Jvm.Cond.code ({ cls := "RankEntry$Began", name := "clock", desc := "()I" } : Jvm.MethodName) prog_4_method_6_code (1 : Nat) (Option.some Jvm.ClassFile.FieldType.int)) ∈ lw_all := lw_g (lw_at lw_m7 179 rfl) rfl
theorem q1702 : (Jvm.Cond.selects "RankEntry$Began" ({ cls := "RankEntry$Event", name := "more", desc := "()I" } : Jvm.MethodName) ({ cls := "RankEntry$Began", name := "more", desc := "()I" } : Jvm.MethodName)) ∈ lw_all := lw_g (lw_at lw_m7 204 rfl) rfl
theorem q1703 : (Jvm.Cond.unhidden "RankEntry$Began" "more" "()I") ∈ lw_tbl := lw_at lw_m7 205 rfl
theorem q1704 : (Jvm.Cond.instanceMethod ({ cls := "RankEntry$Began", name := "more", desc := "()I" } : Jvm.MethodName)) ∈ lw_all := lw_g (lw_at lw_m7 206 rfl) rfl
theorem q1705 : (Jvm.Cond.publicMethod ({ cls := "RankEntry$Began", name := "more", desc := "()I" } : Jvm.MethodName)) ∈ lw_tbl := lw_at lw_m7 207 rfl
theorem q1706 : (Jvm.Cond.code ({ cls := "RankEntry$Began", name := "more", desc := "()I" } : Jvm.MethodName) prog_4_method_7_code (1 : Nat) (Option.some Jvm.ClassFile.FieldType.int)) ∈ lw_all := lw_g (lw_at lw_m7 208 rfl) rfl
theorem q2197 : (Jvm.Cond.castable "RankEntry$Began" "java/lang/Object") ∈ lw_tbl := lw_at lw_m9 219 rfl
theorem in_X7 : ∀ w ∈ wsX70, w ∈ lw_all := lw_in wsX70 [337, 339, 341, 343] (by decide +kernel) (by decide +kernel)
/-! RankEntry$Op$11 -/
set_option maxRecDepth 100000
def RX8 : String := "RankEntry$Op$11"
abbrev cX8_does : ByteArray := prog_18_method_2_code
def yX8_does : MethodName := ⟨RX8, "does", "(LRankEntry$Core;II)V"⟩
def dkwX8_does_0 : List UInt8 := [43, 28, 29, 184, 0, 7, 181, 0, 13, 177]
abbrev dktX8_does_0 : List UInt8 := dkwX8_does_0 ++ []
theorem dksX8_does_0 : cX8_does.data.toList.drop 0 = dktX8_does_0 := by decide +kernel
theorem dX8_does_0 : decode cX8_does 0 = .ok (.aload_n 1, 1) := dk_43 (dk_at dksX8_does_0 0 rfl rfl)
theorem dX8_does_1 : decode cX8_does 1 = .ok (.iload_n 2, 1) := dk_28 (dk_at dksX8_does_0 1 rfl rfl)
theorem dX8_does_2 : decode cX8_does 2 = .ok (.iload_n 3, 1) := dk_29 (dk_at dksX8_does_0 2 rfl rfl)
theorem dX8_does_3 : decode cX8_does 3 = .ok (.invokestatic 7, 3) := dk_184 0 7 (dk_at dksX8_does_0 3 rfl rfl)
theorem dX8_does_6 : decode cX8_does 6 = .ok (.putfield 13, 3) := dk_181 0 13 (dk_at dksX8_does_0 6 rfl rfl)
theorem dX8_does_9 : decode cX8_does 9 = .ok (.return_, 1) := dk_177 (dk_at dksX8_does_0 9 rfl rfl)
abbrev cX8_goesOn : ByteArray := prog_18_method_3_code
def yX8_goesOn : MethodName := ⟨RX8, "goesOn", "()Z"⟩
theorem dX8_goesOn_0 : decode cX8_goesOn 0 = .ok (.iconst 0, 1) := by decide +kernel
theorem dX8_goesOn_1 : decode cX8_goesOn 1 = .ok (.ireturn, 1) := by decide +kernel
abbrev cX8_jumps : ByteArray := prog_18_method_4_code
def yX8_jumps : MethodName := ⟨RX8, "jumps", "()Z"⟩
theorem dX8_jumps_0 : decode cX8_jumps 0 = .ok (.iconst 1, 1) := by decide +kernel
theorem dX8_jumps_1 : decode cX8_jumps 1 = .ok (.ireturn, 1) := by decide +kernel
theorem q72 : (Jvm.Cond.initialized "RankEntry$Op$11") ∈ lw_all := lw_g (lw_at lw_m1 14 rfl) rfl
theorem q367 : (Jvm.Cond.selects "RankEntry$Op$11" ({ cls := "RankEntry$Op", name := "isFloat", desc := "()Z" } : Jvm.MethodName) ({ cls := "RankEntry$Op", name := "isFloat", desc := "()Z" } : Jvm.MethodName)) ∈ lw_all := lw_g (lw_at lw_m2 69 rfl) rfl
theorem q438 : (Jvm.Cond.selects "RankEntry$Op$11" ({ cls := "RankEntry$Op", name := "does", desc := "(LRankEntry$Core;II)V" } : Jvm.MethodName) ({ cls := "RankEntry$Op$11", name := "does", desc := "(LRankEntry$Core;II)V" } : Jvm.MethodName)) ∈ lw_all := lw_g (lw_at lw_m2 140 rfl) rfl
theorem q439 : (Jvm.Cond.instanceMethod ({ cls := "RankEntry$Op$11", name := "does", desc := "(LRankEntry$Core;II)V" } : Jvm.MethodName)) ∈ lw_all := lw_g (lw_at lw_m2 141 rfl) rfl
theorem q440 : (Jvm.Cond.code ({ cls := "RankEntry$Op$11", name := "does", desc := "(LRankEntry$Core;II)V" } : Jvm.MethodName) prog_18_method_2_code (4 : Nat) (Option.none : Option Jvm.ClassFile.FieldType)) ∈ lw_all := lw_g (lw_at lw_m2 142 rfl) rfl
theorem q441 : (Jvm.Cond.methodLink "RankEntry$Op$11" (7 : Nat) ({ cls := "RankEntry$Op$11", name := "target", desc := "(II)I" } : Jvm.MethodName)) ∈ lw_all := lw_g (lw_at lw_m2 143 rfl) rfl
theorem q442 : (Jvm.Cond.sameMethod "RankEntry$Op$11" "RankEntry$Op" "target" "(II)I") ∈ lw_all := lw_g (lw_at lw_m2 144 rfl) rfl
theorem q886 : (Jvm.Cond.fieldLinkNest "RankEntry$Op$11" (13 : Nat) "RankEntry$Core" "pc" "I" "RankEntry") ∈ lw_tbl := lw_at lw_m4 108 rfl
theorem q1318 : (Jvm.Cond.selects "RankEntry$Op$11" ({ cls := "RankEntry$Op", name := "stops", desc := "()Z" } : Jvm.MethodName) ({ cls := "RankEntry$Op", name := "stops", desc := "()Z" } : Jvm.MethodName)) ∈ lw_all := lw_g (lw_at lw_m6 60 rfl) rfl
theorem q1353 : (Jvm.Cond.selects "RankEntry$Op$11" ({ cls := "RankEntry$Op", name := "ways", desc := "()I" } : Jvm.MethodName) ({ cls := "RankEntry$Op", name := "ways", desc := "()I" } : Jvm.MethodName)) ∈ lw_all := lw_g (lw_at lw_m6 95 rfl) rfl
theorem q1386 : (Jvm.Cond.selects "RankEntry$Op$11" ({ cls := "RankEntry$Op", name := "goesOn", desc := "()Z" } : Jvm.MethodName) ({ cls := "RankEntry$Op$11", name := "goesOn", desc := "()Z" } : Jvm.MethodName)) ∈ lw_all := lw_g (lw_at lw_m6 128 rfl) rfl
theorem q1387 : (Jvm.Cond.instanceMethod ({ cls := "RankEntry$Op$11", name := "goesOn", desc := "()Z" } : Jvm.MethodName)) ∈ lw_all := lw_g (lw_at lw_m6 129 rfl) rfl
theorem q1388 : (Jvm.Cond.code ({ cls := "RankEntry$Op$11", name := "goesOn", desc := "()Z" } : Jvm.MethodName) prog_18_method_3_code (1 : Nat) (Option.some Jvm.ClassFile.FieldType.boolean)) ∈ lw_all := lw_g (lw_at lw_m6 130 rfl) rfl
theorem q1423 : (Jvm.Cond.selects "RankEntry$Op$11" ({ cls := "RankEntry$Op", name := "jumps", desc := "()Z" } : Jvm.MethodName) ({ cls := "RankEntry$Op$11", name := "jumps", desc := "()Z" } : Jvm.MethodName)) ∈ lw_all := lw_g (lw_at lw_m6 165 rfl) rfl
theorem q1424 : (Jvm.Cond.instanceMethod ({ cls := "RankEntry$Op$11", name := "jumps", desc := "()Z" } : Jvm.MethodName)) ∈ lw_all := lw_g (lw_at lw_m6 166 rfl) rfl
theorem q1425 : (Jvm.Cond.code ({ cls := "RankEntry$Op$11", name := "jumps", desc := "()Z" } : Jvm.MethodName) prog_18_method_4_code (1 : Nat) (Option.some Jvm.ClassFile.FieldType.boolean)) ∈ lw_all := lw_g (lw_at lw_m6 167 rfl) rfl
theorem q1475 : (Jvm.Cond.selects "RankEntry$Op$11" ({ cls := "RankEntry$Op", name := "pushes", desc := "()I" } : Jvm.MethodName) ({ cls := "RankEntry$Op", name := "pushes", desc := "()I" } : Jvm.MethodName)) ∈ lw_all := lw_g (lw_at lw_m6 217 rfl) rfl
theorem q2175 : (Jvm.Cond.castable "RankEntry$Op$11" "java/lang/Object") ∈ lw_tbl := lw_at lw_m9 197 rfl
theorem q2222 : (Jvm.Cond.castable "RankEntry$Op$11" "RankEntry$Op") ∈ lw_tbl := lw_at lw_m10 4 rfl
/-! RankEntry$Op$12 -/
set_option maxRecDepth 100000
def RX9 : String := "RankEntry$Op$12"
abbrev cX9_does : ByteArray := prog_19_method_2_code
def yX9_does : MethodName := ⟨RX9, "does", "(LRankEntry$Core;II)V"⟩
def dkwX9_does_1 : List UInt8 := [177]
abbrev dktX9_does_1 : List UInt8 := dkwX9_does_1 ++ []
def dkwX9_does_0 : List UInt8 := [43, 43, 180, 0, 7, 4, 160, 0, 11, 28, 29, 184, 0, 13, 167, 0, 7, 43, 180, 0, 19, 181, 0, 19]
abbrev dktX9_does_0 : List UInt8 := dkwX9_does_0 ++ dktX9_does_1
theorem dksX9_does_0 : cX9_does.data.toList.drop 0 = dktX9_does_0 := by decide +kernel
theorem dksX9_does_1 : cX9_does.data.toList.drop 24 = dktX9_does_1 := dk_seg dksX9_does_0 24 rfl rfl
theorem dX9_does_0 : decode cX9_does 0 = .ok (.aload_n 1, 1) := dk_43 (dk_at dksX9_does_0 0 rfl rfl)
theorem dX9_does_1 : decode cX9_does 1 = .ok (.aload_n 1, 1) := dk_43 (dk_at dksX9_does_0 1 rfl rfl)
theorem dX9_does_2 : decode cX9_does 2 = .ok (.getfield 7, 3) := dk_180 0 7 (dk_at dksX9_does_0 2 rfl rfl)
theorem dX9_does_5 : decode cX9_does 5 = .ok (.iconst 1, 1) := dk_4 (dk_at dksX9_does_0 5 rfl rfl)
theorem dX9_does_6 : decode cX9_does 6 = .ok (.if_icmp .ne 11, 3) := dk_160 0 11 (dk_at dksX9_does_0 6 rfl rfl)
theorem dX9_does_9 : decode cX9_does 9 = .ok (.iload_n 2, 1) := dk_28 (dk_at dksX9_does_0 9 rfl rfl)
theorem dX9_does_10 : decode cX9_does 10 = .ok (.iload_n 3, 1) := dk_29 (dk_at dksX9_does_0 10 rfl rfl)
theorem dX9_does_11 : decode cX9_does 11 = .ok (.invokestatic 13, 3) := dk_184 0 13 (dk_at dksX9_does_0 11 rfl rfl)
theorem dX9_does_14 : decode cX9_does 14 = .ok (.goto 7, 3) := dk_167 0 7 (dk_at dksX9_does_0 14 rfl rfl)
theorem dX9_does_17 : decode cX9_does 17 = .ok (.aload_n 1, 1) := dk_43 (dk_at dksX9_does_0 17 rfl rfl)
theorem dX9_does_18 : decode cX9_does 18 = .ok (.getfield 19, 3) := dk_180 0 19 (dk_at dksX9_does_0 18 rfl rfl)
theorem dX9_does_21 : decode cX9_does 21 = .ok (.putfield 19, 3) := dk_181 0 19 (dk_at dksX9_does_0 21 rfl rfl)
theorem dX9_does_24 : decode cX9_does 24 = .ok (.return_, 1) := dk_177 (dk_at dksX9_does_1 0 rfl rfl)
abbrev cX9_jumps : ByteArray := prog_19_method_3_code
def yX9_jumps : MethodName := ⟨RX9, "jumps", "()Z"⟩
theorem dX9_jumps_0 : decode cX9_jumps 0 = .ok (.iconst 1, 1) := by decide +kernel
theorem dX9_jumps_1 : decode cX9_jumps 1 = .ok (.ireturn, 1) := by decide +kernel
theorem q73 : (Jvm.Cond.initialized "RankEntry$Op$12") ∈ lw_all := lw_g (lw_at lw_m1 15 rfl) rfl
theorem q368 : (Jvm.Cond.selects "RankEntry$Op$12" ({ cls := "RankEntry$Op", name := "isFloat", desc := "()Z" } : Jvm.MethodName) ({ cls := "RankEntry$Op", name := "isFloat", desc := "()Z" } : Jvm.MethodName)) ∈ lw_all := lw_g (lw_at lw_m2 70 rfl) rfl
theorem q445 : (Jvm.Cond.selects "RankEntry$Op$12" ({ cls := "RankEntry$Op", name := "does", desc := "(LRankEntry$Core;II)V" } : Jvm.MethodName) ({ cls := "RankEntry$Op$12", name := "does", desc := "(LRankEntry$Core;II)V" } : Jvm.MethodName)) ∈ lw_all := lw_g (lw_at lw_m2 147 rfl) rfl
theorem q446 : (Jvm.Cond.instanceMethod ({ cls := "RankEntry$Op$12", name := "does", desc := "(LRankEntry$Core;II)V" } : Jvm.MethodName)) ∈ lw_all := lw_g (lw_at lw_m2 148 rfl) rfl
theorem q447 : (Jvm.Cond.code ({ cls := "RankEntry$Op$12", name := "does", desc := "(LRankEntry$Core;II)V" } : Jvm.MethodName) prog_19_method_2_code (4 : Nat) (Option.none : Option Jvm.ClassFile.FieldType)) ∈ lw_all := lw_g (lw_at lw_m2 149 rfl) rfl
theorem q448 : (Jvm.Cond.methodLink "RankEntry$Op$12" (13 : Nat) ({ cls := "RankEntry$Op$12", name := "target", desc := "(II)I" } : Jvm.MethodName)) ∈ lw_all := lw_g (lw_at lw_m2 150 rfl) rfl
theorem q449 : (Jvm.Cond.sameMethod "RankEntry$Op$12" "RankEntry$Op" "target" "(II)I") ∈ lw_all := lw_g (lw_at lw_m2 151 rfl) rfl
theorem q880 : (Jvm.Cond.fieldLinkNest "RankEntry$Op$12" (7 : Nat) "RankEntry$Core" "z" "I" "RankEntry") ∈ lw_tbl := lw_at lw_m4 102 rfl
theorem q887 : (Jvm.Cond.fieldLinkNest "RankEntry$Op$12" (19 : Nat) "RankEntry$Core" "pc" "I" "RankEntry") ∈ lw_tbl := lw_at lw_m4 109 rfl
theorem q1319 : (Jvm.Cond.selects "RankEntry$Op$12" ({ cls := "RankEntry$Op", name := "stops", desc := "()Z" } : Jvm.MethodName) ({ cls := "RankEntry$Op", name := "stops", desc := "()Z" } : Jvm.MethodName)) ∈ lw_all := lw_g (lw_at lw_m6 61 rfl) rfl
theorem q1354 : (Jvm.Cond.selects "RankEntry$Op$12" ({ cls := "RankEntry$Op", name := "ways", desc := "()I" } : Jvm.MethodName) ({ cls := "RankEntry$Op", name := "ways", desc := "()I" } : Jvm.MethodName)) ∈ lw_all := lw_g (lw_at lw_m6 96 rfl) rfl
theorem q1389 : (Jvm.Cond.selects "RankEntry$Op$12" ({ cls := "RankEntry$Op", name := "goesOn", desc := "()Z" } : Jvm.MethodName) ({ cls := "RankEntry$Op", name := "goesOn", desc := "()Z" } : Jvm.MethodName)) ∈ lw_all := lw_g (lw_at lw_m6 131 rfl) rfl
theorem q1426 : (Jvm.Cond.selects "RankEntry$Op$12" ({ cls := "RankEntry$Op", name := "jumps", desc := "()Z" } : Jvm.MethodName) ({ cls := "RankEntry$Op$12", name := "jumps", desc := "()Z" } : Jvm.MethodName)) ∈ lw_all := lw_g (lw_at lw_m6 168 rfl) rfl
theorem q1427 : (Jvm.Cond.instanceMethod ({ cls := "RankEntry$Op$12", name := "jumps", desc := "()Z" } : Jvm.MethodName)) ∈ lw_all := lw_g (lw_at lw_m6 169 rfl) rfl
theorem q1428 : (Jvm.Cond.code ({ cls := "RankEntry$Op$12", name := "jumps", desc := "()Z" } : Jvm.MethodName) prog_19_method_3_code (1 : Nat) (Option.some Jvm.ClassFile.FieldType.boolean)) ∈ lw_all := lw_g (lw_at lw_m6 170 rfl) rfl
theorem q1476 : (Jvm.Cond.selects "RankEntry$Op$12" ({ cls := "RankEntry$Op", name := "pushes", desc := "()I" } : Jvm.MethodName) ({ cls := "RankEntry$Op", name := "pushes", desc := "()I" } : Jvm.MethodName)) ∈ lw_all := lw_g (lw_at lw_m6 218 rfl) rfl
theorem q2176 : (Jvm.Cond.castable "RankEntry$Op$12" "java/lang/Object") ∈ lw_tbl := lw_at lw_m9 198 rfl
theorem q2223 : (Jvm.Cond.castable "RankEntry$Op$12" "RankEntry$Op") ∈ lw_tbl := lw_at lw_m10 5 rfl
theorem q236 : (Jvm.Cond.interfaceMethod "RankEntry$Ahead" "RankEntry$Ahead" "is" "(LRankEntry$Source;LRankEntry$Source;)Z") ∈ lw_tbl := lw_at lw_m1 178 rfl
set_option maxRecDepth 100000
theorem q237 : (Jvm.Cond.declares ({ cls := "RankEntry$Ahead", name := "is", desc := "(LRankEntry$Source;LRankEntry$Source;)Z" } : Jvm.MethodName)) ∈ lw_tbl := lw_at lw_m1 179 rfl
theorem q521 : (Jvm.Cond.interfaceMethod "RankEntry$Chains" "RankEntry$Chains" "may" "(I)Z") ∈ lw_tbl := lw_at lw_m2 223 rfl
set_option maxRecDepth 100000
theorem q522 : (Jvm.Cond.declares ({ cls := "RankEntry$Chains", name := "may", desc := "(I)Z" } : Jvm.MethodName)) ∈ lw_tbl := lw_at lw_m2 224 rfl
theorem q313 : (Jvm.Cond.interfaceMethod "RankEntry$Choice" "RankEntry$Choice" "of" "(II)I") ∈ lw_tbl := lw_at lw_m2 15 rfl
set_option maxRecDepth 100000
theorem q314 : (Jvm.Cond.declares ({ cls := "RankEntry$Choice", name := "of", desc := "(II)I" } : Jvm.MethodName)) ∈ lw_tbl := lw_at lw_m2 16 rfl
theorem q1632 : (Jvm.Cond.interfaceMethod "RankEntry$Event" "RankEntry$Event" "source" "()I") ∈ lw_tbl := lw_at lw_m7 134 rfl
set_option maxRecDepth 100000
theorem q1633 : (Jvm.Cond.declares ({ cls := "RankEntry$Event", name := "source", desc := "()I" } : Jvm.MethodName)) ∈ lw_tbl := lw_at lw_m7 135 rfl
theorem q1666 : (Jvm.Cond.interfaceMethod "RankEntry$Event" "RankEntry$Event" "clock" "()I") ∈ lw_tbl := lw_at lw_m7 168 rfl
theorem q1667 : (Jvm.Cond.declares ({ cls := "RankEntry$Event", name := "clock", desc := "()I" } : Jvm.MethodName)) ∈ lw_tbl := lw_at lw_m7 169 rfl
theorem q1695 : (Jvm.Cond.interfaceMethod "RankEntry$Event" "RankEntry$Event" "more" "()I") ∈ lw_tbl := lw_at lw_m7 197 rfl
theorem q1696 : (Jvm.Cond.declares ({ cls := "RankEntry$Event", name := "more", desc := "()I" } : Jvm.MethodName)) ∈ lw_tbl := lw_at lw_m7 198 rfl
theorem q1156 : (Jvm.Cond.interfaceMethod "RankEntry$Phase" "RankEntry$Phase" "go" "()V") ∈ lw_tbl := lw_at lw_m5 138 rfl
set_option maxRecDepth 100000
theorem q1157 : (Jvm.Cond.declares ({ cls := "RankEntry$Phase", name := "go", desc := "()V" } : Jvm.MethodName)) ∈ lw_tbl := lw_at lw_m5 139 rfl
theorem q111 : (Jvm.Cond.sameMethod "[LRankEntry$Op;" "java/lang/Object" "clone" "()Ljava/lang/Object;") ∈ lw_all := lw_g (lw_at lw_m1 53 rfl) rfl
set_option maxRecDepth 100000
theorem q114 : (Jvm.Cond.selects "[LRankEntry$Op;" ({ cls := "[LRankEntry$Op;", name := "clone", desc := "()Ljava/lang/Object;" } : Jvm.MethodName) ({ cls := "java/lang/Object", name := "clone", desc := "()Ljava/lang/Object;" } : Jvm.MethodName)) ∈ lw_all := lw_g (lw_at lw_m1 56 rfl) rfl
theorem q115 : (Jvm.Cond.castable "[LRankEntry$Op;" "java/lang/Cloneable") ∈ lw_tbl := lw_at lw_m1 57 rfl
theorem q61 : (Jvm.Cond.initialized "java/lang/Enum") ∈ lw_all := lw_g (lw_at lw_m1 3 rfl) rfl
set_option maxRecDepth 100000
theorem q70 : (Jvm.Cond.initialized "java/lang/Number") ∈ lw_all := lw_g (lw_at lw_m1 12 rfl) rfl
set_option maxRecDepth 100000
theorem q90 : (Jvm.Cond.initialized "java/lang/System") ∈ lw_all := lw_g (lw_at lw_m1 32 rfl) rfl
set_option maxRecDepth 100000
theorem q1247 : (Jvm.Cond.static ({ cls := "java/lang/System", name := "arraycopy", desc := "(Ljava/lang/Object;ILjava/lang/Object;II)V" } : Jvm.MethodName)) ∈ lw_all := lw_g (lw_at lw_m5 229 rfl) rfl
theorem q1248 : (Jvm.Cond.native ({ cls := "java/lang/System", name := "arraycopy", desc := "(Ljava/lang/Object;ILjava/lang/Object;II)V" } : Jvm.MethodName)) ∈ lw_all := lw_g (lw_at lw_m5 230 rfl) rfl
