set_option maxRecDepth 100000
/-! java/lang/Throwable -/
set_option maxRecDepth 100000
def RJ0 : String := "java/lang/Throwable"
def TJ0 : u_T := fun k => match k with
  | 0 => ("java/lang/Throwable", "cause", "Ljava/lang/Throwable;", false)
  | 1 => ("java/lang/Throwable", "stackTrace", "[Ljava/lang/StackTraceElement;", false)
  | 2 => ("java/lang/Throwable", "suppressedExceptions", "Ljava/util/List;", false)
  | 3 => ("java/lang/Throwable", "detailMessage", "Ljava/lang/String;", false)
  | _ => ("java/lang/Throwable", "backtrace", "Ljava/lang/Object;", false)
def tyJ0 : Nat → FieldType := fun k => match k with
  | 0 => .object "java/lang/Throwable"
  | 1 => .array (.object "java/lang/StackTraceElement")
  | 2 => .object "java/util/List"
  | 3 => .object "java/lang/String"
  | _ => .object "java/lang/Object"
abbrev wsJ00 : List Cond := u_ws RJ0 TJ0 5
theorem nmJ0 : ∀ a, a < 5 → ∀ b, b < 5 → a ≠ b → (TJ0 a).2.1 ≠ (TJ0 b).2.1 := by decide +kernel
theorem tyJ0_ok : ∀ k, k < 5 → parseFieldDescriptor (TJ0 k).2.2.1 = some (tyJ0 k) := by decide +kernel
abbrev cJ0_init_2 : ByteArray := prog_47_method_5_code
def yJ0_init_2 : MethodName := ⟨RJ0, "<init>", "(Ljava/lang/String;Ljava/lang/Throwable;ZZ)V"⟩
def dkwJ0_init_2_2 : List UInt8 := [44, 181, 0, 7, 29, 154, 0, 8, 42, 1, 181, 0, 24, 177]
abbrev dktJ0_init_2_2 : List UInt8 := dkwJ0_init_2_2 ++ []
def dkwJ0_init_2_1 : List UInt8 := [21, 4, 153, 0, 11, 42, 182, 0, 27, 87, 167, 0, 8, 42, 1, 181, 0, 17, 42, 43, 181, 0, 31, 42]
abbrev dktJ0_init_2_1 : List UInt8 := dkwJ0_init_2_1 ++ dktJ0_init_2_2
def dkwJ0_init_2_0 : List UInt8 := [42, 183, 0, 1, 42, 42, 181, 0, 7, 42, 178, 0, 13, 181, 0, 17, 42, 178, 0, 20, 181, 0, 24]
abbrev dktJ0_init_2_0 : List UInt8 := dkwJ0_init_2_0 ++ dktJ0_init_2_1
theorem dksJ0_init_2_0 : cJ0_init_2.data.toList.drop 0 = dktJ0_init_2_0 := by decide +kernel
theorem dksJ0_init_2_1 : cJ0_init_2.data.toList.drop 23 = dktJ0_init_2_1 := dk_seg dksJ0_init_2_0 23 rfl rfl
theorem dksJ0_init_2_2 : cJ0_init_2.data.toList.drop 47 = dktJ0_init_2_2 := dk_seg dksJ0_init_2_1 24 rfl rfl
theorem dJ0_init_2_0 : decode cJ0_init_2 0 = .ok (.aload_n 0, 1) := dk_42 (dk_at dksJ0_init_2_0 0 rfl rfl)
theorem dJ0_init_2_1 : decode cJ0_init_2 1 = .ok (.invokespecial 1, 3) := dk_183 0 1 (dk_at dksJ0_init_2_0 1 rfl rfl)
theorem dJ0_init_2_4 : decode cJ0_init_2 4 = .ok (.aload_n 0, 1) := dk_42 (dk_at dksJ0_init_2_0 4 rfl rfl)
theorem dJ0_init_2_5 : decode cJ0_init_2 5 = .ok (.aload_n 0, 1) := dk_42 (dk_at dksJ0_init_2_0 5 rfl rfl)
theorem dJ0_init_2_6 : decode cJ0_init_2 6 = .ok (.putfield 7, 3) := dk_181 0 7 (dk_at dksJ0_init_2_0 6 rfl rfl)
theorem dJ0_init_2_9 : decode cJ0_init_2 9 = .ok (.aload_n 0, 1) := dk_42 (dk_at dksJ0_init_2_0 9 rfl rfl)
theorem dJ0_init_2_10 : decode cJ0_init_2 10 = .ok (.getstatic 13, 3) := dk_178 0 13 (dk_at dksJ0_init_2_0 10 rfl rfl)
theorem dJ0_init_2_13 : decode cJ0_init_2 13 = .ok (.putfield 17, 3) := dk_181 0 17 (dk_at dksJ0_init_2_0 13 rfl rfl)
theorem dJ0_init_2_16 : decode cJ0_init_2 16 = .ok (.aload_n 0, 1) := dk_42 (dk_at dksJ0_init_2_0 16 rfl rfl)
theorem dJ0_init_2_17 : decode cJ0_init_2 17 = .ok (.getstatic 20, 3) := dk_178 0 20 (dk_at dksJ0_init_2_0 17 rfl rfl)
theorem dJ0_init_2_20 : decode cJ0_init_2 20 = .ok (.putfield 24, 3) := dk_181 0 24 (dk_at dksJ0_init_2_0 20 rfl rfl)
theorem dJ0_init_2_23 : decode cJ0_init_2 23 = .ok (.iload 4, 2) := dk_21 4 (dk_at dksJ0_init_2_1 0 rfl rfl)
theorem dJ0_init_2_25 : decode cJ0_init_2 25 = .ok (.ifCond .eq 11, 3) := dk_153 0 11 (dk_at dksJ0_init_2_1 2 rfl rfl)
theorem dJ0_init_2_28 : decode cJ0_init_2 28 = .ok (.aload_n 0, 1) := dk_42 (dk_at dksJ0_init_2_1 5 rfl rfl)
theorem dJ0_init_2_29 : decode cJ0_init_2 29 = .ok (.invokevirtual 27, 3) := dk_182 0 27 (dk_at dksJ0_init_2_1 6 rfl rfl)
theorem dJ0_init_2_32 : decode cJ0_init_2 32 = .ok (.pop, 1) := dk_87 (dk_at dksJ0_init_2_1 9 rfl rfl)
theorem dJ0_init_2_33 : decode cJ0_init_2 33 = .ok (.goto 8, 3) := dk_167 0 8 (dk_at dksJ0_init_2_1 10 rfl rfl)
theorem dJ0_init_2_36 : decode cJ0_init_2 36 = .ok (.aload_n 0, 1) := dk_42 (dk_at dksJ0_init_2_1 13 rfl rfl)
theorem dJ0_init_2_37 : decode cJ0_init_2 37 = .ok (.aconst_null, 1) := dk_1 (dk_at dksJ0_init_2_1 14 rfl rfl)
theorem dJ0_init_2_38 : decode cJ0_init_2 38 = .ok (.putfield 17, 3) := dk_181 0 17 (dk_at dksJ0_init_2_1 15 rfl rfl)
theorem dJ0_init_2_41 : decode cJ0_init_2 41 = .ok (.aload_n 0, 1) := dk_42 (dk_at dksJ0_init_2_1 18 rfl rfl)
theorem dJ0_init_2_42 : decode cJ0_init_2 42 = .ok (.aload_n 1, 1) := dk_43 (dk_at dksJ0_init_2_1 19 rfl rfl)
theorem dJ0_init_2_43 : decode cJ0_init_2 43 = .ok (.putfield 31, 3) := dk_181 0 31 (dk_at dksJ0_init_2_1 20 rfl rfl)
theorem dJ0_init_2_46 : decode cJ0_init_2 46 = .ok (.aload_n 0, 1) := dk_42 (dk_at dksJ0_init_2_1 23 rfl rfl)
theorem dJ0_init_2_47 : decode cJ0_init_2 47 = .ok (.aload_n 2, 1) := dk_44 (dk_at dksJ0_init_2_2 0 rfl rfl)
theorem dJ0_init_2_48 : decode cJ0_init_2 48 = .ok (.putfield 7, 3) := dk_181 0 7 (dk_at dksJ0_init_2_2 1 rfl rfl)
theorem dJ0_init_2_51 : decode cJ0_init_2 51 = .ok (.iload_n 3, 1) := dk_29 (dk_at dksJ0_init_2_2 4 rfl rfl)
theorem dJ0_init_2_52 : decode cJ0_init_2 52 = .ok (.ifCond .ne 8, 3) := dk_154 0 8 (dk_at dksJ0_init_2_2 5 rfl rfl)
theorem dJ0_init_2_55 : decode cJ0_init_2 55 = .ok (.aload_n 0, 1) := dk_42 (dk_at dksJ0_init_2_2 8 rfl rfl)
theorem dJ0_init_2_56 : decode cJ0_init_2 56 = .ok (.aconst_null, 1) := dk_1 (dk_at dksJ0_init_2_2 9 rfl rfl)
theorem dJ0_init_2_57 : decode cJ0_init_2 57 = .ok (.putfield 24, 3) := dk_181 0 24 (dk_at dksJ0_init_2_2 10 rfl rfl)
theorem dJ0_init_2_60 : decode cJ0_init_2 60 = .ok (.return_, 1) := dk_177 (dk_at dksJ0_init_2_2 13 rfl rfl)
theorem q95 : (Jvm.Cond.initialized "java/lang/Throwable") ∈ lw_all := lw_g (lw_at lw_m1 3 rfl) rfl
theorem q167 : (Jvm.Cond.declares ({ cls := "java/lang/Throwable", name := "<init>", desc := "()V" } : Jvm.MethodName)) ∈ lw_tbl := lw_at lw_m1 75 rfl
theorem q168 : (Jvm.Cond.declares ({ cls := "java/lang/Throwable", name := "<init>", desc := "(Ljava/lang/String;)V" } : Jvm.MethodName)) ∈ lw_tbl := lw_at lw_m1 76 rfl
theorem q172 : (Jvm.Cond.lays "java/lang/Throwable" "java/lang/Throwable" "cause" "Ljava/lang/Throwable;") ∈ lw_all := lw_g (lw_at lw_m1 80 rfl) rfl
theorem q174 : (Jvm.Cond.lays "java/lang/Throwable" "java/lang/Throwable" "stackTrace" "[Ljava/lang/StackTraceElement;") ∈ lw_all := lw_g (lw_at lw_m1 82 rfl) rfl
theorem q176 : (Jvm.Cond.lays "java/lang/Throwable" "java/lang/Throwable" "suppressedExceptions" "Ljava/util/List;") ∈ lw_all := lw_g (lw_at lw_m1 84 rfl) rfl
theorem q178 : (Jvm.Cond.lays "java/lang/Throwable" "java/lang/Throwable" "detailMessage" "Ljava/lang/String;") ∈ lw_all := lw_g (lw_at lw_m1 86 rfl) rfl
theorem q180 : (Jvm.Cond.lays "java/lang/Throwable" "java/lang/Throwable" "backtrace" "Ljava/lang/Object;") ∈ lw_all := lw_g (lw_at lw_m1 88 rfl) rfl
theorem q181 : (Jvm.Cond.fieldLink "java/lang/Throwable" (198 : Nat) "java/lang/Throwable" "backtrace" "Ljava/lang/Object;") ∈ lw_all := lw_g (lw_at lw_m1 89 rfl) rfl
theorem q182 : (Jvm.Cond.superclass "java/lang/Throwable" "java/lang/Object") ∈ lw_all := lw_g (lw_at lw_m1 90 rfl) rfl
theorem q183 : (Jvm.Cond.instanceMethod ({ cls := "java/lang/Throwable", name := "<init>", desc := "()V" } : Jvm.MethodName)) ∈ lw_all := lw_g (lw_at lw_m1 91 rfl) rfl
theorem q184 : (Jvm.Cond.code ({ cls := "java/lang/Throwable", name := "<init>", desc := "()V" } : Jvm.MethodName) prog_47_method_1_code (1 : Nat) (Option.none : Option Jvm.ClassFile.FieldType)) ∈ lw_all := lw_g (lw_at lw_m1 92 rfl) rfl
theorem q185 : (Jvm.Cond.methodLink "java/lang/Throwable" (1 : Nat) ({ cls := "java/lang/Object", name := "<init>", desc := "()V" } : Jvm.MethodName)) ∈ lw_all := lw_g (lw_at lw_m1 93 rfl) rfl
theorem q186 : (Jvm.Cond.fieldLink "java/lang/Throwable" (13 : Nat) "java/lang/Throwable" "UNASSIGNED_STACK" "[Ljava/lang/StackTraceElement;") ∈ lw_all := lw_g (lw_at lw_m1 94 rfl) rfl
theorem q187 : (Jvm.Cond.laysStatic "java/lang/Throwable" "UNASSIGNED_STACK" "[Ljava/lang/StackTraceElement;") ∈ lw_tbl := lw_at lw_m1 95 rfl
theorem q188 : (Jvm.Cond.fieldLink "java/lang/Throwable" (20 : Nat) "java/lang/Throwable" "SUPPRESSED_SENTINEL" "Ljava/util/List;") ∈ lw_all := lw_g (lw_at lw_m1 96 rfl) rfl
theorem q189 : (Jvm.Cond.laysStatic "java/lang/Throwable" "SUPPRESSED_SENTINEL" "Ljava/util/List;") ∈ lw_tbl := lw_at lw_m1 97 rfl
theorem q190 : (Jvm.Cond.methodLink "java/lang/Throwable" (27 : Nat) ({ cls := "java/lang/Throwable", name := "fillInStackTrace", desc := "()Ljava/lang/Throwable;" } : Jvm.MethodName)) ∈ lw_all := lw_g (lw_at lw_m1 98 rfl) rfl
theorem q191 : (Jvm.Cond.instanceMethod ({ cls := "java/lang/Throwable", name := "fillInStackTrace", desc := "()Ljava/lang/Throwable;" } : Jvm.MethodName)) ∈ lw_all := lw_g (lw_at lw_m1 99 rfl) rfl
theorem q192 : (Jvm.Cond.sameMethod "java/lang/Throwable" "java/lang/Throwable" "fillInStackTrace" "()Ljava/lang/Throwable;") ∈ lw_all := lw_g (lw_at lw_m1 100 rfl) rfl
theorem q193 : (Jvm.Cond.codeSync ({ cls := "java/lang/Throwable", name := "fillInStackTrace", desc := "()Ljava/lang/Throwable;" } : Jvm.MethodName) prog_47_method_18_code (1 : Nat) (Option.some (Jvm.ClassFile.FieldType.object "java/lang/Throwable"))) ∈ lw_all := lw_g (lw_at lw_m1 101 rfl) rfl
theorem q194 : (Jvm.Cond.methodLink "java/lang/Throwable" (202 : Nat) ({ cls := "java/lang/Throwable", name := "fillInStackTrace", desc := "(I)Ljava/lang/Throwable;" } : Jvm.MethodName)) ∈ lw_all := lw_g (lw_at lw_m1 102 rfl) rfl
theorem q195 : (Jvm.Cond.privateMethod ({ cls := "java/lang/Throwable", name := "fillInStackTrace", desc := "(I)Ljava/lang/Throwable;" } : Jvm.MethodName)) ∈ lw_tbl := lw_at lw_m1 103 rfl
theorem q196 : (Jvm.Cond.instanceMethod ({ cls := "java/lang/Throwable", name := "fillInStackTrace", desc := "(I)Ljava/lang/Throwable;" } : Jvm.MethodName)) ∈ lw_all := lw_g (lw_at lw_m1 104 rfl) rfl
theorem q197 : (Jvm.Cond.instantiable "java/lang/Throwable" (6 : Nat)) ∈ lw_all := lw_g (lw_at lw_m1 105 rfl) rfl
theorem q198 : (Jvm.Cond.native ({ cls := "java/lang/Throwable", name := "fillInStackTrace", desc := "(I)Ljava/lang/Throwable;" } : Jvm.MethodName)) ∈ lw_all := lw_g (lw_at lw_m1 106 rfl) rfl
theorem q209 : (Jvm.Cond.instanceMethod ({ cls := "java/lang/Throwable", name := "<init>", desc := "(Ljava/lang/String;Ljava/lang/Throwable;ZZ)V" } : Jvm.MethodName)) ∈ lw_all := lw_g (lw_at lw_m1 117 rfl) rfl
theorem q210 : (Jvm.Cond.code ({ cls := "java/lang/Throwable", name := "<init>", desc := "(Ljava/lang/String;Ljava/lang/Throwable;ZZ)V" } : Jvm.MethodName) prog_47_method_5_code (5 : Nat) (Option.none : Option Jvm.ClassFile.FieldType)) ∈ lw_all := lw_g (lw_at lw_m1 118 rfl) rfl
theorem q213 : (Jvm.Cond.fieldLink "java/lang/Throwable" (198 : Nat) "java/lang/Throwable" "backtrace" "Ljava/lang/Object;") ∈ lw_all := lw_g (lw_at lw_m1 121 rfl) rfl
theorem q214 : (Jvm.Cond.fieldLink "java/lang/Throwable" (31 : Nat) "java/lang/Throwable" "detailMessage" "Ljava/lang/String;") ∈ lw_all := lw_g (lw_at lw_m1 122 rfl) rfl
theorem q215 : (Jvm.Cond.fieldLink "java/lang/Throwable" (7 : Nat) "java/lang/Throwable" "cause" "Ljava/lang/Throwable;") ∈ lw_all := lw_g (lw_at lw_m1 123 rfl) rfl
theorem q216 : (Jvm.Cond.fieldLink "java/lang/Throwable" (17 : Nat) "java/lang/Throwable" "stackTrace" "[Ljava/lang/StackTraceElement;") ∈ lw_all := lw_g (lw_at lw_m1 124 rfl) rfl
theorem q217 : (Jvm.Cond.fieldLink "java/lang/Throwable" (24 : Nat) "java/lang/Throwable" "suppressedExceptions" "Ljava/util/List;") ∈ lw_all := lw_g (lw_at lw_m1 125 rfl) rfl
theorem q220 : (Jvm.Cond.soleField "java/lang/Throwable" "backtrace") ∈ lw_all := lw_g (lw_at lw_m1 128 rfl) rfl
theorem q221 : (Jvm.Cond.soleField "java/lang/Throwable" "detailMessage") ∈ lw_all := lw_g (lw_at lw_m1 129 rfl) rfl
theorem q222 : (Jvm.Cond.soleField "java/lang/Throwable" "cause") ∈ lw_all := lw_g (lw_at lw_m1 130 rfl) rfl
theorem q223 : (Jvm.Cond.soleField "java/lang/Throwable" "stackTrace") ∈ lw_all := lw_g (lw_at lw_m1 131 rfl) rfl
theorem q225 : (Jvm.Cond.soleField "java/lang/Throwable" "depth") ∈ lw_all := lw_g (lw_at lw_m1 133 rfl) rfl
theorem q226 : (Jvm.Cond.soleField "java/lang/Throwable" "suppressedExceptions") ∈ lw_all := lw_g (lw_at lw_m1 134 rfl) rfl
theorem q2913 : (Jvm.Cond.sameMethod "java/lang/Throwable" "java/lang/Throwable" "fillInStackTrace" "(I)Ljava/lang/Throwable;") ∈ lw_all := lw_g (lw_at lw_m12 181 rfl) rfl
theorem q2965 : (Jvm.Cond.castable "java/lang/Throwable" "java/lang/Object") ∈ lw_tbl := lw_at lw_m12 233 rfl
theorem in_J0 : ∀ w ∈ wsJ00, w ∈ lw_all := lw_in wsJ00 [172, 174, 176, 178, 180] (by decide +kernel) (by decide +kernel)

/-! java/lang/Exception -/
set_option maxRecDepth 100000
def RJ1 : String := "java/lang/Exception"
abbrev cJ1_init : ByteArray := prog_32_method_5_code
def yJ1_init : MethodName := ⟨RJ1, "<init>", "(Ljava/lang/String;Ljava/lang/Throwable;ZZ)V"⟩
def dkwJ1_init_0 : List UInt8 := [42, 43, 44, 29, 21, 4, 183, 0, 16, 177]
abbrev dktJ1_init_0 : List UInt8 := dkwJ1_init_0 ++ []
theorem dksJ1_init_0 : cJ1_init.data.toList.drop 0 = dktJ1_init_0 := by decide +kernel
theorem dJ1_init_0 : decode cJ1_init 0 = .ok (.aload_n 0, 1) := dk_42 (dk_at dksJ1_init_0 0 rfl rfl)
theorem dJ1_init_1 : decode cJ1_init 1 = .ok (.aload_n 1, 1) := dk_43 (dk_at dksJ1_init_0 1 rfl rfl)
theorem dJ1_init_2 : decode cJ1_init 2 = .ok (.aload_n 2, 1) := dk_44 (dk_at dksJ1_init_0 2 rfl rfl)
theorem dJ1_init_3 : decode cJ1_init 3 = .ok (.iload_n 3, 1) := dk_29 (dk_at dksJ1_init_0 3 rfl rfl)
theorem dJ1_init_4 : decode cJ1_init 4 = .ok (.iload 4, 2) := dk_21 4 (dk_at dksJ1_init_0 4 rfl rfl)
theorem dJ1_init_6 : decode cJ1_init 6 = .ok (.invokespecial 16, 3) := dk_183 0 16 (dk_at dksJ1_init_0 6 rfl rfl)
theorem dJ1_init_9 : decode cJ1_init 9 = .ok (.return_, 1) := dk_177 (dk_at dksJ1_init_0 9 rfl rfl)
theorem q96 : (Jvm.Cond.initialized "java/lang/Exception") ∈ lw_all := lw_g (lw_at lw_m1 4 rfl) rfl
theorem q165 : (Jvm.Cond.declares ({ cls := "java/lang/Exception", name := "<init>", desc := "()V" } : Jvm.MethodName)) ∈ lw_tbl := lw_at lw_m1 73 rfl
theorem q166 : (Jvm.Cond.declares ({ cls := "java/lang/Exception", name := "<init>", desc := "(Ljava/lang/String;)V" } : Jvm.MethodName)) ∈ lw_tbl := lw_at lw_m1 74 rfl
theorem q206 : (Jvm.Cond.instanceMethod ({ cls := "java/lang/Exception", name := "<init>", desc := "(Ljava/lang/String;Ljava/lang/Throwable;ZZ)V" } : Jvm.MethodName)) ∈ lw_all := lw_g (lw_at lw_m1 114 rfl) rfl
theorem q207 : (Jvm.Cond.code ({ cls := "java/lang/Exception", name := "<init>", desc := "(Ljava/lang/String;Ljava/lang/Throwable;ZZ)V" } : Jvm.MethodName) prog_32_method_5_code (5 : Nat) (Option.none : Option Jvm.ClassFile.FieldType)) ∈ lw_all := lw_g (lw_at lw_m1 115 rfl) rfl
theorem q208 : (Jvm.Cond.methodLink "java/lang/Exception" (16 : Nat) ({ cls := "java/lang/Throwable", name := "<init>", desc := "(Ljava/lang/String;Ljava/lang/Throwable;ZZ)V" } : Jvm.MethodName)) ∈ lw_all := lw_g (lw_at lw_m1 116 rfl) rfl

/-! java/util/Arrays -/
set_option maxRecDepth 100000
def RJ10 : String := "java/util/Arrays"
abbrev cJ10_copyOf : ByteArray := prog_54_method_119_code
def yJ10_copyOf : MethodName := ⟨RJ10, "copyOf", "([Ljava/lang/Object;I)[Ljava/lang/Object;"⟩
def dkwJ10_copyOf_0 : List UInt8 := [42, 27, 42, 182, 0, 86, 184, 1, 44, 176]
abbrev dktJ10_copyOf_0 : List UInt8 := dkwJ10_copyOf_0 ++ []
theorem dksJ10_copyOf_0 : cJ10_copyOf.data.toList.drop 0 = dktJ10_copyOf_0 := by decide +kernel
theorem dJ10_copyOf_0 : decode cJ10_copyOf 0 = .ok (.aload_n 0, 1) := dk_42 (dk_at dksJ10_copyOf_0 0 rfl rfl)
theorem dJ10_copyOf_1 : decode cJ10_copyOf 1 = .ok (.iload_n 1, 1) := dk_27 (dk_at dksJ10_copyOf_0 1 rfl rfl)
theorem dJ10_copyOf_2 : decode cJ10_copyOf 2 = .ok (.aload_n 0, 1) := dk_42 (dk_at dksJ10_copyOf_0 2 rfl rfl)
theorem dJ10_copyOf_3 : decode cJ10_copyOf 3 = .ok (.invokevirtual 86, 3) := dk_182 0 86 (dk_at dksJ10_copyOf_0 3 rfl rfl)
theorem dJ10_copyOf_6 : decode cJ10_copyOf 6 = .ok (.invokestatic 300, 3) := dk_184 1 44 (dk_at dksJ10_copyOf_0 6 rfl rfl)
theorem dJ10_copyOf_9 : decode cJ10_copyOf 9 = .ok (.areturn, 1) := dk_176 (dk_at dksJ10_copyOf_0 9 rfl rfl)
abbrev cJ10_copyOf_2 : ByteArray := prog_54_method_120_code
def yJ10_copyOf_2 : MethodName := ⟨RJ10, "copyOf", "([Ljava/lang/Object;ILjava/lang/Class;)[Ljava/lang/Object;"⟩
def dkwJ10_copyOf_2_1 : List UInt8 := [78, 42, 3, 45, 3, 42, 190, 27, 184, 1, 48, 184, 0, 150, 45, 176]
abbrev dktJ10_copyOf_2_1 : List UInt8 := dkwJ10_copyOf_2_1 ++ []
def dkwJ10_copyOf_2_0 : List UInt8 := [44, 18, 110, 166, 0, 10, 27, 189, 0, 2, 167, 0, 14, 44, 182, 0, 90, 27, 184, 0, 95, 192, 0, 110]
abbrev dktJ10_copyOf_2_0 : List UInt8 := dkwJ10_copyOf_2_0 ++ dktJ10_copyOf_2_1
theorem dksJ10_copyOf_2_0 : cJ10_copyOf_2.data.toList.drop 0 = dktJ10_copyOf_2_0 := by decide +kernel
theorem dksJ10_copyOf_2_1 : cJ10_copyOf_2.data.toList.drop 24 = dktJ10_copyOf_2_1 := dk_seg dksJ10_copyOf_2_0 24 rfl rfl
theorem dJ10_copyOf_2_0 : decode cJ10_copyOf_2 0 = .ok (.aload_n 2, 1) := dk_44 (dk_at dksJ10_copyOf_2_0 0 rfl rfl)
theorem dJ10_copyOf_2_1 : decode cJ10_copyOf_2 1 = .ok (.ldc 110, 2) := dk_18 110 (dk_at dksJ10_copyOf_2_0 1 rfl rfl)
theorem dJ10_copyOf_2_3 : decode cJ10_copyOf_2 3 = .ok (.if_acmp .ne 10, 3) := dk_166 0 10 (dk_at dksJ10_copyOf_2_0 3 rfl rfl)
theorem dJ10_copyOf_2_6 : decode cJ10_copyOf_2 6 = .ok (.iload_n 1, 1) := dk_27 (dk_at dksJ10_copyOf_2_0 6 rfl rfl)
theorem dJ10_copyOf_2_7 : decode cJ10_copyOf_2 7 = .ok (.anewarray 2, 3) := dk_189 0 2 (dk_at dksJ10_copyOf_2_0 7 rfl rfl)
theorem dJ10_copyOf_2_10 : decode cJ10_copyOf_2 10 = .ok (.goto 14, 3) := dk_167 0 14 (dk_at dksJ10_copyOf_2_0 10 rfl rfl)
theorem dJ10_copyOf_2_13 : decode cJ10_copyOf_2 13 = .ok (.aload_n 2, 1) := dk_44 (dk_at dksJ10_copyOf_2_0 13 rfl rfl)
theorem dJ10_copyOf_2_14 : decode cJ10_copyOf_2 14 = .ok (.invokevirtual 90, 3) := dk_182 0 90 (dk_at dksJ10_copyOf_2_0 14 rfl rfl)
theorem dJ10_copyOf_2_17 : decode cJ10_copyOf_2 17 = .ok (.iload_n 1, 1) := dk_27 (dk_at dksJ10_copyOf_2_0 17 rfl rfl)
theorem dJ10_copyOf_2_18 : decode cJ10_copyOf_2 18 = .ok (.invokestatic 95, 3) := dk_184 0 95 (dk_at dksJ10_copyOf_2_0 18 rfl rfl)
theorem dJ10_copyOf_2_21 : decode cJ10_copyOf_2 21 = .ok (.checkcast 110, 3) := dk_192 0 110 (dk_at dksJ10_copyOf_2_0 21 rfl rfl)
theorem dJ10_copyOf_2_24 : decode cJ10_copyOf_2 24 = .ok (.astore_n 3, 1) := dk_78 (dk_at dksJ10_copyOf_2_1 0 rfl rfl)
theorem dJ10_copyOf_2_25 : decode cJ10_copyOf_2 25 = .ok (.aload_n 0, 1) := dk_42 (dk_at dksJ10_copyOf_2_1 1 rfl rfl)
theorem dJ10_copyOf_2_26 : decode cJ10_copyOf_2 26 = .ok (.iconst 0, 1) := dk_3 (dk_at dksJ10_copyOf_2_1 2 rfl rfl)
theorem dJ10_copyOf_2_27 : decode cJ10_copyOf_2 27 = .ok (.aload_n 3, 1) := dk_45 (dk_at dksJ10_copyOf_2_1 3 rfl rfl)
theorem dJ10_copyOf_2_28 : decode cJ10_copyOf_2 28 = .ok (.iconst 0, 1) := dk_3 (dk_at dksJ10_copyOf_2_1 4 rfl rfl)
theorem dJ10_copyOf_2_29 : decode cJ10_copyOf_2 29 = .ok (.aload_n 0, 1) := dk_42 (dk_at dksJ10_copyOf_2_1 5 rfl rfl)
theorem dJ10_copyOf_2_30 : decode cJ10_copyOf_2 30 = .ok (.arraylength, 1) := dk_190 (dk_at dksJ10_copyOf_2_1 6 rfl rfl)
theorem dJ10_copyOf_2_31 : decode cJ10_copyOf_2 31 = .ok (.iload_n 1, 1) := dk_27 (dk_at dksJ10_copyOf_2_1 7 rfl rfl)
theorem dJ10_copyOf_2_32 : decode cJ10_copyOf_2 32 = .ok (.invokestatic 304, 3) := dk_184 1 48 (dk_at dksJ10_copyOf_2_1 8 rfl rfl)
theorem dJ10_copyOf_2_35 : decode cJ10_copyOf_2 35 = .ok (.invokestatic 150, 3) := dk_184 0 150 (dk_at dksJ10_copyOf_2_1 11 rfl rfl)
theorem dJ10_copyOf_2_38 : decode cJ10_copyOf_2 38 = .ok (.aload_n 3, 1) := dk_45 (dk_at dksJ10_copyOf_2_1 14 rfl rfl)
theorem dJ10_copyOf_2_39 : decode cJ10_copyOf_2 39 = .ok (.areturn, 1) := dk_176 (dk_at dksJ10_copyOf_2_1 15 rfl rfl)
abbrev cJ10_copyOf_3 : ByteArray := prog_54_method_121_code
def yJ10_copyOf_3 : MethodName := ⟨RJ10, "copyOf", "([BI)[B"⟩
def dkwJ10_copyOf_3_1 : List UInt8 := [27, 184, 1, 48, 184, 0, 150, 44, 176]
abbrev dktJ10_copyOf_3_1 : List UInt8 := dkwJ10_copyOf_3_1 ++ []
def dkwJ10_copyOf_3_0 : List UInt8 := [27, 42, 190, 160, 0, 11, 42, 182, 1, 54, 192, 1, 55, 176, 27, 188, 8, 77, 42, 3, 44, 3, 42, 190]
abbrev dktJ10_copyOf_3_0 : List UInt8 := dkwJ10_copyOf_3_0 ++ dktJ10_copyOf_3_1
theorem dksJ10_copyOf_3_0 : cJ10_copyOf_3.data.toList.drop 0 = dktJ10_copyOf_3_0 := by decide +kernel
theorem dksJ10_copyOf_3_1 : cJ10_copyOf_3.data.toList.drop 24 = dktJ10_copyOf_3_1 := dk_seg dksJ10_copyOf_3_0 24 rfl rfl
theorem dJ10_copyOf_3_0 : decode cJ10_copyOf_3 0 = .ok (.iload_n 1, 1) := dk_27 (dk_at dksJ10_copyOf_3_0 0 rfl rfl)
theorem dJ10_copyOf_3_1 : decode cJ10_copyOf_3 1 = .ok (.aload_n 0, 1) := dk_42 (dk_at dksJ10_copyOf_3_0 1 rfl rfl)
theorem dJ10_copyOf_3_2 : decode cJ10_copyOf_3 2 = .ok (.arraylength, 1) := dk_190 (dk_at dksJ10_copyOf_3_0 2 rfl rfl)
theorem dJ10_copyOf_3_3 : decode cJ10_copyOf_3 3 = .ok (.if_icmp .ne 11, 3) := dk_160 0 11 (dk_at dksJ10_copyOf_3_0 3 rfl rfl)
theorem dJ10_copyOf_3_6 : decode cJ10_copyOf_3 6 = .ok (.aload_n 0, 1) := dk_42 (dk_at dksJ10_copyOf_3_0 6 rfl rfl)
theorem dJ10_copyOf_3_7 : decode cJ10_copyOf_3 7 = .ok (.invokevirtual 310, 3) := dk_182 1 54 (dk_at dksJ10_copyOf_3_0 7 rfl rfl)
theorem dJ10_copyOf_3_10 : decode cJ10_copyOf_3 10 = .ok (.checkcast 311, 3) := dk_192 1 55 (dk_at dksJ10_copyOf_3_0 10 rfl rfl)
theorem dJ10_copyOf_3_13 : decode cJ10_copyOf_3 13 = .ok (.areturn, 1) := dk_176 (dk_at dksJ10_copyOf_3_0 13 rfl rfl)
theorem dJ10_copyOf_3_14 : decode cJ10_copyOf_3 14 = .ok (.iload_n 1, 1) := dk_27 (dk_at dksJ10_copyOf_3_0 14 rfl rfl)
theorem dJ10_copyOf_3_15 : decode cJ10_copyOf_3 15 = .ok (.newarray .byte, 2) := dk_188_8 (dk_at dksJ10_copyOf_3_0 15 rfl rfl)
theorem dJ10_copyOf_3_17 : decode cJ10_copyOf_3 17 = .ok (.astore_n 2, 1) := dk_77 (dk_at dksJ10_copyOf_3_0 17 rfl rfl)
theorem dJ10_copyOf_3_18 : decode cJ10_copyOf_3 18 = .ok (.aload_n 0, 1) := dk_42 (dk_at dksJ10_copyOf_3_0 18 rfl rfl)
theorem dJ10_copyOf_3_19 : decode cJ10_copyOf_3 19 = .ok (.iconst 0, 1) := dk_3 (dk_at dksJ10_copyOf_3_0 19 rfl rfl)
theorem dJ10_copyOf_3_20 : decode cJ10_copyOf_3 20 = .ok (.aload_n 2, 1) := dk_44 (dk_at dksJ10_copyOf_3_0 20 rfl rfl)
theorem dJ10_copyOf_3_21 : decode cJ10_copyOf_3 21 = .ok (.iconst 0, 1) := dk_3 (dk_at dksJ10_copyOf_3_0 21 rfl rfl)
theorem dJ10_copyOf_3_22 : decode cJ10_copyOf_3 22 = .ok (.aload_n 0, 1) := dk_42 (dk_at dksJ10_copyOf_3_0 22 rfl rfl)
theorem dJ10_copyOf_3_23 : decode cJ10_copyOf_3 23 = .ok (.arraylength, 1) := dk_190 (dk_at dksJ10_copyOf_3_0 23 rfl rfl)
theorem dJ10_copyOf_3_24 : decode cJ10_copyOf_3 24 = .ok (.iload_n 1, 1) := dk_27 (dk_at dksJ10_copyOf_3_1 0 rfl rfl)
theorem dJ10_copyOf_3_25 : decode cJ10_copyOf_3 25 = .ok (.invokestatic 304, 3) := dk_184 1 48 (dk_at dksJ10_copyOf_3_1 1 rfl rfl)
theorem dJ10_copyOf_3_28 : decode cJ10_copyOf_3 28 = .ok (.invokestatic 150, 3) := dk_184 0 150 (dk_at dksJ10_copyOf_3_1 4 rfl rfl)
theorem dJ10_copyOf_3_31 : decode cJ10_copyOf_3 31 = .ok (.aload_n 2, 1) := dk_44 (dk_at dksJ10_copyOf_3_1 7 rfl rfl)
theorem dJ10_copyOf_3_32 : decode cJ10_copyOf_3 32 = .ok (.areturn, 1) := dk_176 (dk_at dksJ10_copyOf_3_1 8 rfl rfl)
abbrev cJ10_copyOfRange : ByteArray := prog_54_method_132_code
def yJ10_copyOfRange : MethodName := ⟨RJ10, "copyOfRange", "([BII)[B"⟩
def dkwJ10_copyOfRange_1 : List UInt8 := [176]
abbrev dktJ10_copyOfRange_1 : List UInt8 := dkwJ10_copyOfRange_1 ++ []
def dkwJ10_copyOfRange_0 : List UInt8 := [27, 154, 0, 9, 28, 42, 190, 159, 0, 10, 42, 27, 28, 184, 1, 83, 176, 42, 182, 1, 54, 192, 1, 55]
abbrev dktJ10_copyOfRange_0 : List UInt8 := dkwJ10_copyOfRange_0 ++ dktJ10_copyOfRange_1
theorem dksJ10_copyOfRange_0 : cJ10_copyOfRange.data.toList.drop 0 = dktJ10_copyOfRange_0 := by decide +kernel
theorem dksJ10_copyOfRange_1 : cJ10_copyOfRange.data.toList.drop 24 = dktJ10_copyOfRange_1 := dk_seg dksJ10_copyOfRange_0 24 rfl rfl
theorem dJ10_copyOfRange_0 : decode cJ10_copyOfRange 0 = .ok (.iload_n 1, 1) := dk_27 (dk_at dksJ10_copyOfRange_0 0 rfl rfl)
theorem dJ10_copyOfRange_1 : decode cJ10_copyOfRange 1 = .ok (.ifCond .ne 9, 3) := dk_154 0 9 (dk_at dksJ10_copyOfRange_0 1 rfl rfl)
theorem dJ10_copyOfRange_4 : decode cJ10_copyOfRange 4 = .ok (.iload_n 2, 1) := dk_28 (dk_at dksJ10_copyOfRange_0 4 rfl rfl)
theorem dJ10_copyOfRange_5 : decode cJ10_copyOfRange 5 = .ok (.aload_n 0, 1) := dk_42 (dk_at dksJ10_copyOfRange_0 5 rfl rfl)
theorem dJ10_copyOfRange_6 : decode cJ10_copyOfRange 6 = .ok (.arraylength, 1) := dk_190 (dk_at dksJ10_copyOfRange_0 6 rfl rfl)
theorem dJ10_copyOfRange_7 : decode cJ10_copyOfRange 7 = .ok (.if_icmp .eq 10, 3) := dk_159 0 10 (dk_at dksJ10_copyOfRange_0 7 rfl rfl)
theorem dJ10_copyOfRange_10 : decode cJ10_copyOfRange 10 = .ok (.aload_n 0, 1) := dk_42 (dk_at dksJ10_copyOfRange_0 10 rfl rfl)
theorem dJ10_copyOfRange_11 : decode cJ10_copyOfRange 11 = .ok (.iload_n 1, 1) := dk_27 (dk_at dksJ10_copyOfRange_0 11 rfl rfl)
theorem dJ10_copyOfRange_12 : decode cJ10_copyOfRange 12 = .ok (.iload_n 2, 1) := dk_28 (dk_at dksJ10_copyOfRange_0 12 rfl rfl)
theorem dJ10_copyOfRange_13 : decode cJ10_copyOfRange 13 = .ok (.invokestatic 339, 3) := dk_184 1 83 (dk_at dksJ10_copyOfRange_0 13 rfl rfl)
theorem dJ10_copyOfRange_16 : decode cJ10_copyOfRange 16 = .ok (.areturn, 1) := dk_176 (dk_at dksJ10_copyOfRange_0 16 rfl rfl)
theorem dJ10_copyOfRange_17 : decode cJ10_copyOfRange 17 = .ok (.aload_n 0, 1) := dk_42 (dk_at dksJ10_copyOfRange_0 17 rfl rfl)
theorem dJ10_copyOfRange_18 : decode cJ10_copyOfRange 18 = .ok (.invokevirtual 310, 3) := dk_182 1 54 (dk_at dksJ10_copyOfRange_0 18 rfl rfl)
theorem dJ10_copyOfRange_21 : decode cJ10_copyOfRange 21 = .ok (.checkcast 311, 3) := dk_192 1 55 (dk_at dksJ10_copyOfRange_0 21 rfl rfl)
theorem dJ10_copyOfRange_24 : decode cJ10_copyOfRange 24 = .ok (.areturn, 1) := dk_176 (dk_at dksJ10_copyOfRange_1 0 rfl rfl)
abbrev cJ10_copyOfRangeByte : ByteArray := prog_54_method_133_code
def yJ10_copyOfRangeByte : MethodName := ⟨RJ10, "copyOfRangeByte", "([BII)[B"⟩
def dkwJ10_copyOfRangeByte_1 : List UInt8 := [184, 1, 48, 184, 0, 150, 25, 4, 176]
abbrev dktJ10_copyOfRangeByte_1 : List UInt8 := dkwJ10_copyOfRangeByte_1 ++ []
def dkwJ10_copyOfRangeByte_0 : List UInt8 := [27, 28, 184, 1, 87, 28, 27, 100, 62, 29, 188, 8, 58, 4, 42, 27, 25, 4, 3, 42, 190, 27, 100, 29]
abbrev dktJ10_copyOfRangeByte_0 : List UInt8 := dkwJ10_copyOfRangeByte_0 ++ dktJ10_copyOfRangeByte_1
theorem dksJ10_copyOfRangeByte_0 : cJ10_copyOfRangeByte.data.toList.drop 0 = dktJ10_copyOfRangeByte_0 := by decide +kernel
theorem dksJ10_copyOfRangeByte_1 : cJ10_copyOfRangeByte.data.toList.drop 24 = dktJ10_copyOfRangeByte_1 := dk_seg dksJ10_copyOfRangeByte_0 24 rfl rfl
theorem dJ10_copyOfRangeByte_0 : decode cJ10_copyOfRangeByte 0 = .ok (.iload_n 1, 1) := dk_27 (dk_at dksJ10_copyOfRangeByte_0 0 rfl rfl)
theorem dJ10_copyOfRangeByte_1 : decode cJ10_copyOfRangeByte 1 = .ok (.iload_n 2, 1) := dk_28 (dk_at dksJ10_copyOfRangeByte_0 1 rfl rfl)
theorem dJ10_copyOfRangeByte_2 : decode cJ10_copyOfRangeByte 2 = .ok (.invokestatic 343, 3) := dk_184 1 87 (dk_at dksJ10_copyOfRangeByte_0 2 rfl rfl)
theorem dJ10_copyOfRangeByte_5 : decode cJ10_copyOfRangeByte 5 = .ok (.iload_n 2, 1) := dk_28 (dk_at dksJ10_copyOfRangeByte_0 5 rfl rfl)
theorem dJ10_copyOfRangeByte_6 : decode cJ10_copyOfRangeByte 6 = .ok (.iload_n 1, 1) := dk_27 (dk_at dksJ10_copyOfRangeByte_0 6 rfl rfl)
theorem dJ10_copyOfRangeByte_7 : decode cJ10_copyOfRangeByte 7 = .ok (.isub, 1) := dk_100 (dk_at dksJ10_copyOfRangeByte_0 7 rfl rfl)
theorem dJ10_copyOfRangeByte_8 : decode cJ10_copyOfRangeByte 8 = .ok (.istore_n 3, 1) := dk_62 (dk_at dksJ10_copyOfRangeByte_0 8 rfl rfl)
theorem dJ10_copyOfRangeByte_9 : decode cJ10_copyOfRangeByte 9 = .ok (.iload_n 3, 1) := dk_29 (dk_at dksJ10_copyOfRangeByte_0 9 rfl rfl)
theorem dJ10_copyOfRangeByte_10 : decode cJ10_copyOfRangeByte 10 = .ok (.newarray .byte, 2) := dk_188_8 (dk_at dksJ10_copyOfRangeByte_0 10 rfl rfl)
theorem dJ10_copyOfRangeByte_12 : decode cJ10_copyOfRangeByte 12 = .ok (.astore 4, 2) := dk_58 4 (dk_at dksJ10_copyOfRangeByte_0 12 rfl rfl)
theorem dJ10_copyOfRangeByte_14 : decode cJ10_copyOfRangeByte 14 = .ok (.aload_n 0, 1) := dk_42 (dk_at dksJ10_copyOfRangeByte_0 14 rfl rfl)
theorem dJ10_copyOfRangeByte_15 : decode cJ10_copyOfRangeByte 15 = .ok (.iload_n 1, 1) := dk_27 (dk_at dksJ10_copyOfRangeByte_0 15 rfl rfl)
theorem dJ10_copyOfRangeByte_16 : decode cJ10_copyOfRangeByte 16 = .ok (.aload 4, 2) := dk_25 4 (dk_at dksJ10_copyOfRangeByte_0 16 rfl rfl)
theorem dJ10_copyOfRangeByte_18 : decode cJ10_copyOfRangeByte 18 = .ok (.iconst 0, 1) := dk_3 (dk_at dksJ10_copyOfRangeByte_0 18 rfl rfl)
theorem dJ10_copyOfRangeByte_19 : decode cJ10_copyOfRangeByte 19 = .ok (.aload_n 0, 1) := dk_42 (dk_at dksJ10_copyOfRangeByte_0 19 rfl rfl)
theorem dJ10_copyOfRangeByte_20 : decode cJ10_copyOfRangeByte 20 = .ok (.arraylength, 1) := dk_190 (dk_at dksJ10_copyOfRangeByte_0 20 rfl rfl)
theorem dJ10_copyOfRangeByte_21 : decode cJ10_copyOfRangeByte 21 = .ok (.iload_n 1, 1) := dk_27 (dk_at dksJ10_copyOfRangeByte_0 21 rfl rfl)
theorem dJ10_copyOfRangeByte_22 : decode cJ10_copyOfRangeByte 22 = .ok (.isub, 1) := dk_100 (dk_at dksJ10_copyOfRangeByte_0 22 rfl rfl)
theorem dJ10_copyOfRangeByte_23 : decode cJ10_copyOfRangeByte 23 = .ok (.iload_n 3, 1) := dk_29 (dk_at dksJ10_copyOfRangeByte_0 23 rfl rfl)
theorem dJ10_copyOfRangeByte_24 : decode cJ10_copyOfRangeByte 24 = .ok (.invokestatic 304, 3) := dk_184 1 48 (dk_at dksJ10_copyOfRangeByte_1 0 rfl rfl)
theorem dJ10_copyOfRangeByte_27 : decode cJ10_copyOfRangeByte 27 = .ok (.invokestatic 150, 3) := dk_184 0 150 (dk_at dksJ10_copyOfRangeByte_1 3 rfl rfl)
theorem dJ10_copyOfRangeByte_30 : decode cJ10_copyOfRangeByte 30 = .ok (.aload 4, 2) := dk_25 4 (dk_at dksJ10_copyOfRangeByte_1 6 rfl rfl)
theorem dJ10_copyOfRangeByte_32 : decode cJ10_copyOfRangeByte 32 = .ok (.areturn, 1) := dk_176 (dk_at dksJ10_copyOfRangeByte_1 8 rfl rfl)
abbrev cJ10_checkLength : ByteArray := prog_54_method_131_code
def yJ10_checkLength : MethodName := ⟨RJ10, "checkLength", "(II)V"⟩
def dkwJ10_checkLength_1 : List UInt8 := [182, 0, 50, 27, 182, 0, 54, 182, 0, 61, 183, 0, 65, 191, 177]
abbrev dktJ10_checkLength_1 : List UInt8 := dkwJ10_checkLength_1 ++ []
def dkwJ10_checkLength_0 : List UInt8 := [27, 26, 162, 0, 35, 187, 0, 43, 89, 187, 0, 45, 89, 183, 0, 47, 26, 182, 0, 54, 19, 1, 81]
abbrev dktJ10_checkLength_0 : List UInt8 := dkwJ10_checkLength_0 ++ dktJ10_checkLength_1
theorem dksJ10_checkLength_0 : cJ10_checkLength.data.toList.drop 0 = dktJ10_checkLength_0 := by decide +kernel
theorem dksJ10_checkLength_1 : cJ10_checkLength.data.toList.drop 23 = dktJ10_checkLength_1 := dk_seg dksJ10_checkLength_0 23 rfl rfl
theorem dJ10_checkLength_0 : decode cJ10_checkLength 0 = .ok (.iload_n 1, 1) := dk_27 (dk_at dksJ10_checkLength_0 0 rfl rfl)
theorem dJ10_checkLength_1 : decode cJ10_checkLength 1 = .ok (.iload_n 0, 1) := dk_26 (dk_at dksJ10_checkLength_0 1 rfl rfl)
theorem dJ10_checkLength_2 : decode cJ10_checkLength 2 = .ok (.if_icmp .ge 35, 3) := dk_162 0 35 (dk_at dksJ10_checkLength_0 2 rfl rfl)
theorem dJ10_checkLength_5 : decode cJ10_checkLength 5 = .ok (.new 43, 3) := dk_187 0 43 (dk_at dksJ10_checkLength_0 5 rfl rfl)
theorem dJ10_checkLength_8 : decode cJ10_checkLength 8 = .ok (.dup, 1) := dk_89 (dk_at dksJ10_checkLength_0 8 rfl rfl)
theorem dJ10_checkLength_9 : decode cJ10_checkLength 9 = .ok (.new 45, 3) := dk_187 0 45 (dk_at dksJ10_checkLength_0 9 rfl rfl)
theorem dJ10_checkLength_12 : decode cJ10_checkLength 12 = .ok (.dup, 1) := dk_89 (dk_at dksJ10_checkLength_0 12 rfl rfl)
theorem dJ10_checkLength_13 : decode cJ10_checkLength 13 = .ok (.invokespecial 47, 3) := dk_183 0 47 (dk_at dksJ10_checkLength_0 13 rfl rfl)
theorem dJ10_checkLength_16 : decode cJ10_checkLength 16 = .ok (.iload_n 0, 1) := dk_26 (dk_at dksJ10_checkLength_0 16 rfl rfl)
theorem dJ10_checkLength_17 : decode cJ10_checkLength 17 = .ok (.invokevirtual 54, 3) := dk_182 0 54 (dk_at dksJ10_checkLength_0 17 rfl rfl)
theorem dJ10_checkLength_20 : decode cJ10_checkLength 20 = .ok (.ldc_w 337, 3) := dk_19 1 81 (dk_at dksJ10_checkLength_0 20 rfl rfl)
theorem dJ10_checkLength_23 : decode cJ10_checkLength 23 = .ok (.invokevirtual 50, 3) := dk_182 0 50 (dk_at dksJ10_checkLength_1 0 rfl rfl)
theorem dJ10_checkLength_26 : decode cJ10_checkLength 26 = .ok (.iload_n 1, 1) := dk_27 (dk_at dksJ10_checkLength_1 3 rfl rfl)
theorem dJ10_checkLength_27 : decode cJ10_checkLength 27 = .ok (.invokevirtual 54, 3) := dk_182 0 54 (dk_at dksJ10_checkLength_1 4 rfl rfl)
theorem dJ10_checkLength_30 : decode cJ10_checkLength 30 = .ok (.invokevirtual 61, 3) := dk_182 0 61 (dk_at dksJ10_checkLength_1 7 rfl rfl)
theorem dJ10_checkLength_33 : decode cJ10_checkLength 33 = .ok (.invokespecial 65, 3) := dk_183 0 65 (dk_at dksJ10_checkLength_1 10 rfl rfl)
theorem dJ10_checkLength_36 : decode cJ10_checkLength 36 = .ok (.athrow, 1) := dk_191 (dk_at dksJ10_checkLength_1 13 rfl rfl)
theorem dJ10_checkLength_37 : decode cJ10_checkLength 37 = .ok (.return_, 1) := dk_177 (dk_at dksJ10_checkLength_1 14 rfl rfl)
theorem q108 : (Jvm.Cond.initialized "java/util/Arrays") ∈ lw_all := lw_g (lw_at lw_m1 16 rfl) rfl
theorem q415 : (Jvm.Cond.static ({ cls := "java/util/Arrays", name := "copyOf", desc := "([Ljava/lang/Object;I)[Ljava/lang/Object;" } : Jvm.MethodName)) ∈ lw_all := lw_g (lw_at lw_m2 83 rfl) rfl
theorem q416 : (Jvm.Cond.code ({ cls := "java/util/Arrays", name := "copyOf", desc := "([Ljava/lang/Object;I)[Ljava/lang/Object;" } : Jvm.MethodName) prog_54_method_119_code (2 : Nat) (Option.some (Jvm.ClassFile.FieldType.array (Jvm.ClassFile.FieldType.object "java/lang/Object")))) ∈ lw_all := lw_g (lw_at lw_m2 84 rfl) rfl
theorem q417 : (Jvm.Cond.methodLink "java/util/Arrays" (86 : Nat) ({ cls := "java/lang/Object", name := "getClass", desc := "()Ljava/lang/Class;" } : Jvm.MethodName)) ∈ lw_all := lw_g (lw_at lw_m2 85 rfl) rfl
theorem q452 : (Jvm.Cond.methodLink "java/util/Arrays" (300 : Nat) ({ cls := "java/util/Arrays", name := "copyOf", desc := "([Ljava/lang/Object;ILjava/lang/Class;)[Ljava/lang/Object;" } : Jvm.MethodName)) ∈ lw_all := lw_g (lw_at lw_m2 120 rfl) rfl
theorem q453 : (Jvm.Cond.static ({ cls := "java/util/Arrays", name := "copyOf", desc := "([Ljava/lang/Object;ILjava/lang/Class;)[Ljava/lang/Object;" } : Jvm.MethodName)) ∈ lw_all := lw_g (lw_at lw_m2 121 rfl) rfl
theorem q454 : (Jvm.Cond.code ({ cls := "java/util/Arrays", name := "copyOf", desc := "([Ljava/lang/Object;ILjava/lang/Class;)[Ljava/lang/Object;" } : Jvm.MethodName) prog_54_method_120_code (4 : Nat) (Option.some (Jvm.ClassFile.FieldType.array (Jvm.ClassFile.FieldType.object "java/lang/Object")))) ∈ lw_all := lw_g (lw_at lw_m2 122 rfl) rfl
theorem q455 : (Jvm.Cond.classLink "java/util/Arrays" (110 : Nat) "[Ljava/lang/Object;") ∈ lw_all := lw_g (lw_at lw_m2 123 rfl) rfl
theorem q457 : (Jvm.Cond.classLink "java/util/Arrays" (2 : Nat) "java/lang/Object") ∈ lw_all := lw_g (lw_at lw_m2 125 rfl) rfl
theorem q458 : (Jvm.Cond.methodLink "java/util/Arrays" (304 : Nat) ({ cls := "java/lang/Math", name := "min", desc := "(II)I" } : Jvm.MethodName)) ∈ lw_all := lw_g (lw_at lw_m2 126 rfl) rfl
theorem q461 : (Jvm.Cond.methodLink "java/util/Arrays" (150 : Nat) ({ cls := "java/lang/System", name := "arraycopy", desc := "(Ljava/lang/Object;ILjava/lang/Object;II)V" } : Jvm.MethodName)) ∈ lw_all := lw_g (lw_at lw_m2 129 rfl) rfl
theorem q1166 : (Jvm.Cond.static ({ cls := "java/util/Arrays", name := "copyOf", desc := "([BI)[B" } : Jvm.MethodName)) ∈ lw_all := lw_g (lw_at lw_m5 114 rfl) rfl
theorem q1167 : (Jvm.Cond.code ({ cls := "java/util/Arrays", name := "copyOf", desc := "([BI)[B" } : Jvm.MethodName) prog_54_method_121_code (3 : Nat) (Option.some (Jvm.ClassFile.FieldType.array Jvm.ClassFile.FieldType.byte))) ∈ lw_all := lw_g (lw_at lw_m5 115 rfl) rfl
theorem q1168 : (Jvm.Cond.methodLink "java/util/Arrays" (310 : Nat) ({ cls := "[B", name := "clone", desc := "()Ljava/lang/Object;" } : Jvm.MethodName)) ∈ lw_all := lw_g (lw_at lw_m5 116 rfl) rfl
theorem q1174 : (Jvm.Cond.classLink "java/util/Arrays" (311 : Nat) "[B") ∈ lw_all := lw_g (lw_at lw_m5 122 rfl) rfl
theorem q1240 : (Jvm.Cond.static ({ cls := "java/util/Arrays", name := "copyOfRange", desc := "([BII)[B" } : Jvm.MethodName)) ∈ lw_all := lw_g (lw_at lw_m5 188 rfl) rfl
theorem q1241 : (Jvm.Cond.code ({ cls := "java/util/Arrays", name := "copyOfRange", desc := "([BII)[B" } : Jvm.MethodName) prog_54_method_132_code (3 : Nat) (Option.some (Jvm.ClassFile.FieldType.array Jvm.ClassFile.FieldType.byte))) ∈ lw_all := lw_g (lw_at lw_m5 189 rfl) rfl
theorem q1242 : (Jvm.Cond.methodLink "java/util/Arrays" (339 : Nat) ({ cls := "java/util/Arrays", name := "copyOfRangeByte", desc := "([BII)[B" } : Jvm.MethodName)) ∈ lw_all := lw_g (lw_at lw_m5 190 rfl) rfl
theorem q1243 : (Jvm.Cond.static ({ cls := "java/util/Arrays", name := "copyOfRangeByte", desc := "([BII)[B" } : Jvm.MethodName)) ∈ lw_all := lw_g (lw_at lw_m5 191 rfl) rfl
theorem q1244 : (Jvm.Cond.code ({ cls := "java/util/Arrays", name := "copyOfRangeByte", desc := "([BII)[B" } : Jvm.MethodName) prog_54_method_133_code (5 : Nat) (Option.some (Jvm.ClassFile.FieldType.array Jvm.ClassFile.FieldType.byte))) ∈ lw_all := lw_g (lw_at lw_m5 192 rfl) rfl
theorem q1245 : (Jvm.Cond.methodLink "java/util/Arrays" (343 : Nat) ({ cls := "java/util/Arrays", name := "checkLength", desc := "(II)V" } : Jvm.MethodName)) ∈ lw_all := lw_g (lw_at lw_m5 193 rfl) rfl
theorem q1246 : (Jvm.Cond.static ({ cls := "java/util/Arrays", name := "checkLength", desc := "(II)V" } : Jvm.MethodName)) ∈ lw_all := lw_g (lw_at lw_m5 194 rfl) rfl
theorem q1247 : (Jvm.Cond.code ({ cls := "java/util/Arrays", name := "checkLength", desc := "(II)V" } : Jvm.MethodName) prog_54_method_131_code (2 : Nat) (Option.none : Option Jvm.ClassFile.FieldType)) ∈ lw_all := lw_g (lw_at lw_m5 195 rfl) rfl

/-! java/lang/Number -/
set_option maxRecDepth 100000
def RJ11 : String := "java/lang/Number"
abbrev cJ11_init : ByteArray := prog_38_method_1_code
def yJ11_init : MethodName := ⟨RJ11, "<init>", "()V"⟩
theorem dJ11_init_0 : decode cJ11_init 0 = .ok (.aload_n 0, 1) := by decide +kernel
theorem dJ11_init_1 : decode cJ11_init 1 = .ok (.invokespecial 1, 3) := by decide +kernel
theorem dJ11_init_4 : decode cJ11_init 4 = .ok (.return_, 1) := by decide +kernel
theorem q110 : (Jvm.Cond.initialized "java/lang/Number") ∈ lw_all := lw_g (lw_at lw_m1 18 rfl) rfl
theorem q1925 : (Jvm.Cond.instanceMethod ({ cls := "java/lang/Number", name := "<init>", desc := "()V" } : Jvm.MethodName)) ∈ lw_all := lw_g (lw_at lw_m8 153 rfl) rfl
theorem q1926 : (Jvm.Cond.code ({ cls := "java/lang/Number", name := "<init>", desc := "()V" } : Jvm.MethodName) prog_38_method_1_code (1 : Nat) (Option.none : Option Jvm.ClassFile.FieldType)) ∈ lw_all := lw_g (lw_at lw_m8 154 rfl) rfl
theorem q1927 : (Jvm.Cond.methodLink "java/lang/Number" (1 : Nat) ({ cls := "java/lang/Object", name := "<init>", desc := "()V" } : Jvm.MethodName)) ∈ lw_all := lw_g (lw_at lw_m8 155 rfl) rfl

/-! java/lang/Integer -/
set_option maxRecDepth 100000
def RJ12 : String := "java/lang/Integer"
def TJ12 : u_T := fun k => match k with
  | _ => ("java/lang/Integer", "value", "I", true)
def tyJ12 : Nat → FieldType := fun k => match k with
  | _ => .int
abbrev wsJ120 : List Cond := u_ws RJ12 TJ12 1
theorem nmJ12 : ∀ a, a < 1 → ∀ b, b < 1 → a ≠ b → (TJ12 a).2.1 ≠ (TJ12 b).2.1 := by decide +kernel
theorem tyJ12_ok : ∀ k, k < 1 → parseFieldDescriptor (TJ12 k).2.2.1 = some (tyJ12 k) := by decide +kernel
abbrev cJ12_intValue : ByteArray := prog_33_method_27_code
def yJ12_intValue : MethodName := ⟨RJ12, "intValue", "()I"⟩
theorem dJ12_intValue_0 : decode cJ12_intValue 0 = .ok (.aload_n 0, 1) := by decide +kernel
theorem dJ12_intValue_1 : decode cJ12_intValue 1 = .ok (.getfield 205, 3) := by decide +kernel
theorem dJ12_intValue_4 : decode cJ12_intValue 4 = .ok (.ireturn, 1) := by decide +kernel
abbrev cJ12_numberOfLeadingZeros : ByteArray := prog_33_method_47_code
def yJ12_numberOfLeadingZeros : MethodName := ⟨RJ12, "numberOfLeadingZeros", "(I)I"⟩
def dkwJ12_numberOfLeadingZeros_3 : List UInt8 := [5, 124, 59, 27, 26, 4, 124, 100, 172]
abbrev dktJ12_numberOfLeadingZeros_3 : List UInt8 := dkwJ12_numberOfLeadingZeros_3 ++ []
def dkwJ12_numberOfLeadingZeros_2 : List UInt8 := [124, 59, 26, 16, 16, 161, 0, 10, 132, 1, 252, 26, 7, 124, 59, 26, 7, 161, 0, 10, 132, 1, 254, 26]
abbrev dktJ12_numberOfLeadingZeros_2 : List UInt8 := dkwJ12_numberOfLeadingZeros_2 ++ dktJ12_numberOfLeadingZeros_3
def dkwJ12_numberOfLeadingZeros_1 : List UInt8 := [161, 0, 11, 132, 1, 240, 26, 16, 16, 124, 59, 26, 17, 1, 0, 161, 0, 11, 132, 1, 248, 26, 16, 8]
abbrev dktJ12_numberOfLeadingZeros_1 : List UInt8 := dkwJ12_numberOfLeadingZeros_1 ++ dktJ12_numberOfLeadingZeros_2
def dkwJ12_numberOfLeadingZeros_0 : List UInt8 := [26, 157, 0, 14, 26, 154, 0, 8, 16, 32, 167, 0, 4, 3, 172, 16, 31, 60, 26, 19, 1, 8]
abbrev dktJ12_numberOfLeadingZeros_0 : List UInt8 := dkwJ12_numberOfLeadingZeros_0 ++ dktJ12_numberOfLeadingZeros_1
theorem dksJ12_numberOfLeadingZeros_0 : cJ12_numberOfLeadingZeros.data.toList.drop 0 = dktJ12_numberOfLeadingZeros_0 := by decide +kernel
theorem dksJ12_numberOfLeadingZeros_1 : cJ12_numberOfLeadingZeros.data.toList.drop 22 = dktJ12_numberOfLeadingZeros_1 := dk_seg dksJ12_numberOfLeadingZeros_0 22 rfl rfl
theorem dksJ12_numberOfLeadingZeros_2 : cJ12_numberOfLeadingZeros.data.toList.drop 46 = dktJ12_numberOfLeadingZeros_2 := dk_seg dksJ12_numberOfLeadingZeros_1 24 rfl rfl
theorem dksJ12_numberOfLeadingZeros_3 : cJ12_numberOfLeadingZeros.data.toList.drop 70 = dktJ12_numberOfLeadingZeros_3 := dk_seg dksJ12_numberOfLeadingZeros_2 24 rfl rfl
theorem dJ12_numberOfLeadingZeros_0 : decode cJ12_numberOfLeadingZeros 0 = .ok (.iload_n 0, 1) := dk_26 (dk_at dksJ12_numberOfLeadingZeros_0 0 rfl rfl)
theorem dJ12_numberOfLeadingZeros_1 : decode cJ12_numberOfLeadingZeros 1 = .ok (.ifCond .gt 14, 3) := dk_157 0 14 (dk_at dksJ12_numberOfLeadingZeros_0 1 rfl rfl)
theorem dJ12_numberOfLeadingZeros_4 : decode cJ12_numberOfLeadingZeros 4 = .ok (.iload_n 0, 1) := dk_26 (dk_at dksJ12_numberOfLeadingZeros_0 4 rfl rfl)
theorem dJ12_numberOfLeadingZeros_5 : decode cJ12_numberOfLeadingZeros 5 = .ok (.ifCond .ne 8, 3) := dk_154 0 8 (dk_at dksJ12_numberOfLeadingZeros_0 5 rfl rfl)
theorem dJ12_numberOfLeadingZeros_8 : decode cJ12_numberOfLeadingZeros 8 = .ok (.bipush 32, 2) := dk_16 32 (dk_at dksJ12_numberOfLeadingZeros_0 8 rfl rfl)
theorem dJ12_numberOfLeadingZeros_10 : decode cJ12_numberOfLeadingZeros 10 = .ok (.goto 4, 3) := dk_167 0 4 (dk_at dksJ12_numberOfLeadingZeros_0 10 rfl rfl)
theorem dJ12_numberOfLeadingZeros_13 : decode cJ12_numberOfLeadingZeros 13 = .ok (.iconst 0, 1) := dk_3 (dk_at dksJ12_numberOfLeadingZeros_0 13 rfl rfl)
theorem dJ12_numberOfLeadingZeros_14 : decode cJ12_numberOfLeadingZeros 14 = .ok (.ireturn, 1) := dk_172 (dk_at dksJ12_numberOfLeadingZeros_0 14 rfl rfl)
theorem dJ12_numberOfLeadingZeros_15 : decode cJ12_numberOfLeadingZeros 15 = .ok (.bipush 31, 2) := dk_16 31 (dk_at dksJ12_numberOfLeadingZeros_0 15 rfl rfl)
theorem dJ12_numberOfLeadingZeros_17 : decode cJ12_numberOfLeadingZeros 17 = .ok (.istore_n 1, 1) := dk_60 (dk_at dksJ12_numberOfLeadingZeros_0 17 rfl rfl)
theorem dJ12_numberOfLeadingZeros_18 : decode cJ12_numberOfLeadingZeros 18 = .ok (.iload_n 0, 1) := dk_26 (dk_at dksJ12_numberOfLeadingZeros_0 18 rfl rfl)
theorem dJ12_numberOfLeadingZeros_19 : decode cJ12_numberOfLeadingZeros 19 = .ok (.ldc_w 264, 3) := dk_19 1 8 (dk_at dksJ12_numberOfLeadingZeros_0 19 rfl rfl)
theorem dJ12_numberOfLeadingZeros_22 : decode cJ12_numberOfLeadingZeros 22 = .ok (.if_icmp .lt 11, 3) := dk_161 0 11 (dk_at dksJ12_numberOfLeadingZeros_1 0 rfl rfl)
theorem dJ12_numberOfLeadingZeros_25 : decode cJ12_numberOfLeadingZeros 25 = .ok (.iinc 1 (-16), 3) := dk_132 1 240 (dk_at dksJ12_numberOfLeadingZeros_1 3 rfl rfl)
theorem dJ12_numberOfLeadingZeros_28 : decode cJ12_numberOfLeadingZeros 28 = .ok (.iload_n 0, 1) := dk_26 (dk_at dksJ12_numberOfLeadingZeros_1 6 rfl rfl)
theorem dJ12_numberOfLeadingZeros_29 : decode cJ12_numberOfLeadingZeros 29 = .ok (.bipush 16, 2) := dk_16 16 (dk_at dksJ12_numberOfLeadingZeros_1 7 rfl rfl)
theorem dJ12_numberOfLeadingZeros_31 : decode cJ12_numberOfLeadingZeros 31 = .ok (.iushr, 1) := dk_124 (dk_at dksJ12_numberOfLeadingZeros_1 9 rfl rfl)
theorem dJ12_numberOfLeadingZeros_32 : decode cJ12_numberOfLeadingZeros 32 = .ok (.istore_n 0, 1) := dk_59 (dk_at dksJ12_numberOfLeadingZeros_1 10 rfl rfl)
theorem dJ12_numberOfLeadingZeros_33 : decode cJ12_numberOfLeadingZeros 33 = .ok (.iload_n 0, 1) := dk_26 (dk_at dksJ12_numberOfLeadingZeros_1 11 rfl rfl)
theorem dJ12_numberOfLeadingZeros_34 : decode cJ12_numberOfLeadingZeros 34 = .ok (.sipush 256, 3) := dk_17 1 0 (dk_at dksJ12_numberOfLeadingZeros_1 12 rfl rfl)
theorem dJ12_numberOfLeadingZeros_37 : decode cJ12_numberOfLeadingZeros 37 = .ok (.if_icmp .lt 11, 3) := dk_161 0 11 (dk_at dksJ12_numberOfLeadingZeros_1 15 rfl rfl)
theorem dJ12_numberOfLeadingZeros_40 : decode cJ12_numberOfLeadingZeros 40 = .ok (.iinc 1 (-8), 3) := dk_132 1 248 (dk_at dksJ12_numberOfLeadingZeros_1 18 rfl rfl)
theorem dJ12_numberOfLeadingZeros_43 : decode cJ12_numberOfLeadingZeros 43 = .ok (.iload_n 0, 1) := dk_26 (dk_at dksJ12_numberOfLeadingZeros_1 21 rfl rfl)
theorem dJ12_numberOfLeadingZeros_44 : decode cJ12_numberOfLeadingZeros 44 = .ok (.bipush 8, 2) := dk_16 8 (dk_at dksJ12_numberOfLeadingZeros_1 22 rfl rfl)
theorem dJ12_numberOfLeadingZeros_46 : decode cJ12_numberOfLeadingZeros 46 = .ok (.iushr, 1) := dk_124 (dk_at dksJ12_numberOfLeadingZeros_2 0 rfl rfl)
theorem dJ12_numberOfLeadingZeros_47 : decode cJ12_numberOfLeadingZeros 47 = .ok (.istore_n 0, 1) := dk_59 (dk_at dksJ12_numberOfLeadingZeros_2 1 rfl rfl)
theorem dJ12_numberOfLeadingZeros_48 : decode cJ12_numberOfLeadingZeros 48 = .ok (.iload_n 0, 1) := dk_26 (dk_at dksJ12_numberOfLeadingZeros_2 2 rfl rfl)
theorem dJ12_numberOfLeadingZeros_49 : decode cJ12_numberOfLeadingZeros 49 = .ok (.bipush 16, 2) := dk_16 16 (dk_at dksJ12_numberOfLeadingZeros_2 3 rfl rfl)
theorem dJ12_numberOfLeadingZeros_51 : decode cJ12_numberOfLeadingZeros 51 = .ok (.if_icmp .lt 10, 3) := dk_161 0 10 (dk_at dksJ12_numberOfLeadingZeros_2 5 rfl rfl)
theorem dJ12_numberOfLeadingZeros_54 : decode cJ12_numberOfLeadingZeros 54 = .ok (.iinc 1 (-4), 3) := dk_132 1 252 (dk_at dksJ12_numberOfLeadingZeros_2 8 rfl rfl)
theorem dJ12_numberOfLeadingZeros_57 : decode cJ12_numberOfLeadingZeros 57 = .ok (.iload_n 0, 1) := dk_26 (dk_at dksJ12_numberOfLeadingZeros_2 11 rfl rfl)
theorem dJ12_numberOfLeadingZeros_58 : decode cJ12_numberOfLeadingZeros 58 = .ok (.iconst 4, 1) := dk_7 (dk_at dksJ12_numberOfLeadingZeros_2 12 rfl rfl)
theorem dJ12_numberOfLeadingZeros_59 : decode cJ12_numberOfLeadingZeros 59 = .ok (.iushr, 1) := dk_124 (dk_at dksJ12_numberOfLeadingZeros_2 13 rfl rfl)
theorem dJ12_numberOfLeadingZeros_60 : decode cJ12_numberOfLeadingZeros 60 = .ok (.istore_n 0, 1) := dk_59 (dk_at dksJ12_numberOfLeadingZeros_2 14 rfl rfl)
theorem dJ12_numberOfLeadingZeros_61 : decode cJ12_numberOfLeadingZeros 61 = .ok (.iload_n 0, 1) := dk_26 (dk_at dksJ12_numberOfLeadingZeros_2 15 rfl rfl)
theorem dJ12_numberOfLeadingZeros_62 : decode cJ12_numberOfLeadingZeros 62 = .ok (.iconst 4, 1) := dk_7 (dk_at dksJ12_numberOfLeadingZeros_2 16 rfl rfl)
theorem dJ12_numberOfLeadingZeros_63 : decode cJ12_numberOfLeadingZeros 63 = .ok (.if_icmp .lt 10, 3) := dk_161 0 10 (dk_at dksJ12_numberOfLeadingZeros_2 17 rfl rfl)
theorem dJ12_numberOfLeadingZeros_66 : decode cJ12_numberOfLeadingZeros 66 = .ok (.iinc 1 (-2), 3) := dk_132 1 254 (dk_at dksJ12_numberOfLeadingZeros_2 20 rfl rfl)
theorem dJ12_numberOfLeadingZeros_69 : decode cJ12_numberOfLeadingZeros 69 = .ok (.iload_n 0, 1) := dk_26 (dk_at dksJ12_numberOfLeadingZeros_2 23 rfl rfl)
theorem dJ12_numberOfLeadingZeros_70 : decode cJ12_numberOfLeadingZeros 70 = .ok (.iconst 2, 1) := dk_5 (dk_at dksJ12_numberOfLeadingZeros_3 0 rfl rfl)
theorem dJ12_numberOfLeadingZeros_71 : decode cJ12_numberOfLeadingZeros 71 = .ok (.iushr, 1) := dk_124 (dk_at dksJ12_numberOfLeadingZeros_3 1 rfl rfl)
theorem dJ12_numberOfLeadingZeros_72 : decode cJ12_numberOfLeadingZeros 72 = .ok (.istore_n 0, 1) := dk_59 (dk_at dksJ12_numberOfLeadingZeros_3 2 rfl rfl)
theorem dJ12_numberOfLeadingZeros_73 : decode cJ12_numberOfLeadingZeros 73 = .ok (.iload_n 1, 1) := dk_27 (dk_at dksJ12_numberOfLeadingZeros_3 3 rfl rfl)
theorem dJ12_numberOfLeadingZeros_74 : decode cJ12_numberOfLeadingZeros 74 = .ok (.iload_n 0, 1) := dk_26 (dk_at dksJ12_numberOfLeadingZeros_3 4 rfl rfl)
theorem dJ12_numberOfLeadingZeros_75 : decode cJ12_numberOfLeadingZeros 75 = .ok (.iconst 1, 1) := dk_4 (dk_at dksJ12_numberOfLeadingZeros_3 5 rfl rfl)
theorem dJ12_numberOfLeadingZeros_76 : decode cJ12_numberOfLeadingZeros 76 = .ok (.iushr, 1) := dk_124 (dk_at dksJ12_numberOfLeadingZeros_3 6 rfl rfl)
theorem dJ12_numberOfLeadingZeros_77 : decode cJ12_numberOfLeadingZeros 77 = .ok (.isub, 1) := dk_100 (dk_at dksJ12_numberOfLeadingZeros_3 7 rfl rfl)
theorem dJ12_numberOfLeadingZeros_78 : decode cJ12_numberOfLeadingZeros 78 = .ok (.ireturn, 1) := dk_172 (dk_at dksJ12_numberOfLeadingZeros_3 8 rfl rfl)
abbrev cJ12_numberOfTrailingZeros : ByteArray := prog_33_method_48_code
def yJ12_numberOfTrailingZeros : MethodName := ⟨RJ12, "numberOfTrailingZeros", "(I)I"⟩
def dkwJ12_numberOfTrailingZeros_3 : List UInt8 := [5, 124, 59, 27, 26, 4, 124, 96, 172]
abbrev dktJ12_numberOfTrailingZeros_3 : List UInt8 := dkwJ12_numberOfTrailingZeros_3 ++ []
def dkwJ12_numberOfTrailingZeros_2 : List UInt8 := [124, 59, 26, 16, 16, 164, 0, 10, 132, 1, 4, 26, 7, 124, 59, 26, 7, 164, 0, 10, 132, 1, 2, 26]
abbrev dktJ12_numberOfTrailingZeros_2 : List UInt8 := dkwJ12_numberOfTrailingZeros_2 ++ dktJ12_numberOfTrailingZeros_3
def dkwJ12_numberOfTrailingZeros_1 : List UInt8 := [164, 0, 11, 132, 1, 16, 26, 16, 16, 124, 59, 26, 17, 1, 0, 164, 0, 11, 132, 1, 8, 26, 16, 8]
abbrev dktJ12_numberOfTrailingZeros_1 : List UInt8 := dkwJ12_numberOfTrailingZeros_1 ++ dktJ12_numberOfTrailingZeros_2
def dkwJ12_numberOfTrailingZeros_0 : List UInt8 := [26, 2, 130, 26, 4, 100, 126, 59, 26, 157, 0, 8, 26, 16, 32, 126, 172, 4, 60, 26, 19, 1, 8]
abbrev dktJ12_numberOfTrailingZeros_0 : List UInt8 := dkwJ12_numberOfTrailingZeros_0 ++ dktJ12_numberOfTrailingZeros_1
theorem dksJ12_numberOfTrailingZeros_0 : cJ12_numberOfTrailingZeros.data.toList.drop 0 = dktJ12_numberOfTrailingZeros_0 := by decide +kernel
theorem dksJ12_numberOfTrailingZeros_1 : cJ12_numberOfTrailingZeros.data.toList.drop 23 = dktJ12_numberOfTrailingZeros_1 := dk_seg dksJ12_numberOfTrailingZeros_0 23 rfl rfl
theorem dksJ12_numberOfTrailingZeros_2 : cJ12_numberOfTrailingZeros.data.toList.drop 47 = dktJ12_numberOfTrailingZeros_2 := dk_seg dksJ12_numberOfTrailingZeros_1 24 rfl rfl
theorem dksJ12_numberOfTrailingZeros_3 : cJ12_numberOfTrailingZeros.data.toList.drop 71 = dktJ12_numberOfTrailingZeros_3 := dk_seg dksJ12_numberOfTrailingZeros_2 24 rfl rfl
theorem dJ12_numberOfTrailingZeros_0 : decode cJ12_numberOfTrailingZeros 0 = .ok (.iload_n 0, 1) := dk_26 (dk_at dksJ12_numberOfTrailingZeros_0 0 rfl rfl)
theorem dJ12_numberOfTrailingZeros_1 : decode cJ12_numberOfTrailingZeros 1 = .ok (.iconst (-1), 1) := dk_2 (dk_at dksJ12_numberOfTrailingZeros_0 1 rfl rfl)
theorem dJ12_numberOfTrailingZeros_2 : decode cJ12_numberOfTrailingZeros 2 = .ok (.ixor, 1) := dk_130 (dk_at dksJ12_numberOfTrailingZeros_0 2 rfl rfl)
theorem dJ12_numberOfTrailingZeros_3 : decode cJ12_numberOfTrailingZeros 3 = .ok (.iload_n 0, 1) := dk_26 (dk_at dksJ12_numberOfTrailingZeros_0 3 rfl rfl)
theorem dJ12_numberOfTrailingZeros_4 : decode cJ12_numberOfTrailingZeros 4 = .ok (.iconst 1, 1) := dk_4 (dk_at dksJ12_numberOfTrailingZeros_0 4 rfl rfl)
theorem dJ12_numberOfTrailingZeros_5 : decode cJ12_numberOfTrailingZeros 5 = .ok (.isub, 1) := dk_100 (dk_at dksJ12_numberOfTrailingZeros_0 5 rfl rfl)
theorem dJ12_numberOfTrailingZeros_6 : decode cJ12_numberOfTrailingZeros 6 = .ok (.iand, 1) := dk_126 (dk_at dksJ12_numberOfTrailingZeros_0 6 rfl rfl)
theorem dJ12_numberOfTrailingZeros_7 : decode cJ12_numberOfTrailingZeros 7 = .ok (.istore_n 0, 1) := dk_59 (dk_at dksJ12_numberOfTrailingZeros_0 7 rfl rfl)
theorem dJ12_numberOfTrailingZeros_8 : decode cJ12_numberOfTrailingZeros 8 = .ok (.iload_n 0, 1) := dk_26 (dk_at dksJ12_numberOfTrailingZeros_0 8 rfl rfl)
theorem dJ12_numberOfTrailingZeros_9 : decode cJ12_numberOfTrailingZeros 9 = .ok (.ifCond .gt 8, 3) := dk_157 0 8 (dk_at dksJ12_numberOfTrailingZeros_0 9 rfl rfl)
theorem dJ12_numberOfTrailingZeros_12 : decode cJ12_numberOfTrailingZeros 12 = .ok (.iload_n 0, 1) := dk_26 (dk_at dksJ12_numberOfTrailingZeros_0 12 rfl rfl)
theorem dJ12_numberOfTrailingZeros_13 : decode cJ12_numberOfTrailingZeros 13 = .ok (.bipush 32, 2) := dk_16 32 (dk_at dksJ12_numberOfTrailingZeros_0 13 rfl rfl)
theorem dJ12_numberOfTrailingZeros_15 : decode cJ12_numberOfTrailingZeros 15 = .ok (.iand, 1) := dk_126 (dk_at dksJ12_numberOfTrailingZeros_0 15 rfl rfl)
theorem dJ12_numberOfTrailingZeros_16 : decode cJ12_numberOfTrailingZeros 16 = .ok (.ireturn, 1) := dk_172 (dk_at dksJ12_numberOfTrailingZeros_0 16 rfl rfl)
theorem dJ12_numberOfTrailingZeros_17 : decode cJ12_numberOfTrailingZeros 17 = .ok (.iconst 1, 1) := dk_4 (dk_at dksJ12_numberOfTrailingZeros_0 17 rfl rfl)
theorem dJ12_numberOfTrailingZeros_18 : decode cJ12_numberOfTrailingZeros 18 = .ok (.istore_n 1, 1) := dk_60 (dk_at dksJ12_numberOfTrailingZeros_0 18 rfl rfl)
theorem dJ12_numberOfTrailingZeros_19 : decode cJ12_numberOfTrailingZeros 19 = .ok (.iload_n 0, 1) := dk_26 (dk_at dksJ12_numberOfTrailingZeros_0 19 rfl rfl)
theorem dJ12_numberOfTrailingZeros_20 : decode cJ12_numberOfTrailingZeros 20 = .ok (.ldc_w 264, 3) := dk_19 1 8 (dk_at dksJ12_numberOfTrailingZeros_0 20 rfl rfl)
theorem dJ12_numberOfTrailingZeros_23 : decode cJ12_numberOfTrailingZeros 23 = .ok (.if_icmp .le 11, 3) := dk_164 0 11 (dk_at dksJ12_numberOfTrailingZeros_1 0 rfl rfl)
theorem dJ12_numberOfTrailingZeros_26 : decode cJ12_numberOfTrailingZeros 26 = .ok (.iinc 1 16, 3) := dk_132 1 16 (dk_at dksJ12_numberOfTrailingZeros_1 3 rfl rfl)
theorem dJ12_numberOfTrailingZeros_29 : decode cJ12_numberOfTrailingZeros 29 = .ok (.iload_n 0, 1) := dk_26 (dk_at dksJ12_numberOfTrailingZeros_1 6 rfl rfl)
theorem dJ12_numberOfTrailingZeros_30 : decode cJ12_numberOfTrailingZeros 30 = .ok (.bipush 16, 2) := dk_16 16 (dk_at dksJ12_numberOfTrailingZeros_1 7 rfl rfl)
theorem dJ12_numberOfTrailingZeros_32 : decode cJ12_numberOfTrailingZeros 32 = .ok (.iushr, 1) := dk_124 (dk_at dksJ12_numberOfTrailingZeros_1 9 rfl rfl)
theorem dJ12_numberOfTrailingZeros_33 : decode cJ12_numberOfTrailingZeros 33 = .ok (.istore_n 0, 1) := dk_59 (dk_at dksJ12_numberOfTrailingZeros_1 10 rfl rfl)
theorem dJ12_numberOfTrailingZeros_34 : decode cJ12_numberOfTrailingZeros 34 = .ok (.iload_n 0, 1) := dk_26 (dk_at dksJ12_numberOfTrailingZeros_1 11 rfl rfl)
theorem dJ12_numberOfTrailingZeros_35 : decode cJ12_numberOfTrailingZeros 35 = .ok (.sipush 256, 3) := dk_17 1 0 (dk_at dksJ12_numberOfTrailingZeros_1 12 rfl rfl)
theorem dJ12_numberOfTrailingZeros_38 : decode cJ12_numberOfTrailingZeros 38 = .ok (.if_icmp .le 11, 3) := dk_164 0 11 (dk_at dksJ12_numberOfTrailingZeros_1 15 rfl rfl)
theorem dJ12_numberOfTrailingZeros_41 : decode cJ12_numberOfTrailingZeros 41 = .ok (.iinc 1 8, 3) := dk_132 1 8 (dk_at dksJ12_numberOfTrailingZeros_1 18 rfl rfl)
theorem dJ12_numberOfTrailingZeros_44 : decode cJ12_numberOfTrailingZeros 44 = .ok (.iload_n 0, 1) := dk_26 (dk_at dksJ12_numberOfTrailingZeros_1 21 rfl rfl)
theorem dJ12_numberOfTrailingZeros_45 : decode cJ12_numberOfTrailingZeros 45 = .ok (.bipush 8, 2) := dk_16 8 (dk_at dksJ12_numberOfTrailingZeros_1 22 rfl rfl)
theorem dJ12_numberOfTrailingZeros_47 : decode cJ12_numberOfTrailingZeros 47 = .ok (.iushr, 1) := dk_124 (dk_at dksJ12_numberOfTrailingZeros_2 0 rfl rfl)
theorem dJ12_numberOfTrailingZeros_48 : decode cJ12_numberOfTrailingZeros 48 = .ok (.istore_n 0, 1) := dk_59 (dk_at dksJ12_numberOfTrailingZeros_2 1 rfl rfl)
theorem dJ12_numberOfTrailingZeros_49 : decode cJ12_numberOfTrailingZeros 49 = .ok (.iload_n 0, 1) := dk_26 (dk_at dksJ12_numberOfTrailingZeros_2 2 rfl rfl)
theorem dJ12_numberOfTrailingZeros_50 : decode cJ12_numberOfTrailingZeros 50 = .ok (.bipush 16, 2) := dk_16 16 (dk_at dksJ12_numberOfTrailingZeros_2 3 rfl rfl)
theorem dJ12_numberOfTrailingZeros_52 : decode cJ12_numberOfTrailingZeros 52 = .ok (.if_icmp .le 10, 3) := dk_164 0 10 (dk_at dksJ12_numberOfTrailingZeros_2 5 rfl rfl)
theorem dJ12_numberOfTrailingZeros_55 : decode cJ12_numberOfTrailingZeros 55 = .ok (.iinc 1 4, 3) := dk_132 1 4 (dk_at dksJ12_numberOfTrailingZeros_2 8 rfl rfl)
theorem dJ12_numberOfTrailingZeros_58 : decode cJ12_numberOfTrailingZeros 58 = .ok (.iload_n 0, 1) := dk_26 (dk_at dksJ12_numberOfTrailingZeros_2 11 rfl rfl)
theorem dJ12_numberOfTrailingZeros_59 : decode cJ12_numberOfTrailingZeros 59 = .ok (.iconst 4, 1) := dk_7 (dk_at dksJ12_numberOfTrailingZeros_2 12 rfl rfl)
theorem dJ12_numberOfTrailingZeros_60 : decode cJ12_numberOfTrailingZeros 60 = .ok (.iushr, 1) := dk_124 (dk_at dksJ12_numberOfTrailingZeros_2 13 rfl rfl)
theorem dJ12_numberOfTrailingZeros_61 : decode cJ12_numberOfTrailingZeros 61 = .ok (.istore_n 0, 1) := dk_59 (dk_at dksJ12_numberOfTrailingZeros_2 14 rfl rfl)
theorem dJ12_numberOfTrailingZeros_62 : decode cJ12_numberOfTrailingZeros 62 = .ok (.iload_n 0, 1) := dk_26 (dk_at dksJ12_numberOfTrailingZeros_2 15 rfl rfl)
theorem dJ12_numberOfTrailingZeros_63 : decode cJ12_numberOfTrailingZeros 63 = .ok (.iconst 4, 1) := dk_7 (dk_at dksJ12_numberOfTrailingZeros_2 16 rfl rfl)
theorem dJ12_numberOfTrailingZeros_64 : decode cJ12_numberOfTrailingZeros 64 = .ok (.if_icmp .le 10, 3) := dk_164 0 10 (dk_at dksJ12_numberOfTrailingZeros_2 17 rfl rfl)
theorem dJ12_numberOfTrailingZeros_67 : decode cJ12_numberOfTrailingZeros 67 = .ok (.iinc 1 2, 3) := dk_132 1 2 (dk_at dksJ12_numberOfTrailingZeros_2 20 rfl rfl)
theorem dJ12_numberOfTrailingZeros_70 : decode cJ12_numberOfTrailingZeros 70 = .ok (.iload_n 0, 1) := dk_26 (dk_at dksJ12_numberOfTrailingZeros_2 23 rfl rfl)
theorem dJ12_numberOfTrailingZeros_71 : decode cJ12_numberOfTrailingZeros 71 = .ok (.iconst 2, 1) := dk_5 (dk_at dksJ12_numberOfTrailingZeros_3 0 rfl rfl)
theorem dJ12_numberOfTrailingZeros_72 : decode cJ12_numberOfTrailingZeros 72 = .ok (.iushr, 1) := dk_124 (dk_at dksJ12_numberOfTrailingZeros_3 1 rfl rfl)
theorem dJ12_numberOfTrailingZeros_73 : decode cJ12_numberOfTrailingZeros 73 = .ok (.istore_n 0, 1) := dk_59 (dk_at dksJ12_numberOfTrailingZeros_3 2 rfl rfl)
theorem dJ12_numberOfTrailingZeros_74 : decode cJ12_numberOfTrailingZeros 74 = .ok (.iload_n 1, 1) := dk_27 (dk_at dksJ12_numberOfTrailingZeros_3 3 rfl rfl)
theorem dJ12_numberOfTrailingZeros_75 : decode cJ12_numberOfTrailingZeros 75 = .ok (.iload_n 0, 1) := dk_26 (dk_at dksJ12_numberOfTrailingZeros_3 4 rfl rfl)
theorem dJ12_numberOfTrailingZeros_76 : decode cJ12_numberOfTrailingZeros 76 = .ok (.iconst 1, 1) := dk_4 (dk_at dksJ12_numberOfTrailingZeros_3 5 rfl rfl)
theorem dJ12_numberOfTrailingZeros_77 : decode cJ12_numberOfTrailingZeros 77 = .ok (.iushr, 1) := dk_124 (dk_at dksJ12_numberOfTrailingZeros_3 6 rfl rfl)
theorem dJ12_numberOfTrailingZeros_78 : decode cJ12_numberOfTrailingZeros 78 = .ok (.iadd, 1) := dk_96 (dk_at dksJ12_numberOfTrailingZeros_3 7 rfl rfl)
theorem dJ12_numberOfTrailingZeros_79 : decode cJ12_numberOfTrailingZeros 79 = .ok (.ireturn, 1) := dk_172 (dk_at dksJ12_numberOfTrailingZeros_3 8 rfl rfl)
abbrev cJ12_valueOf : ByteArray := prog_33_method_22_code
def yJ12_valueOf : MethodName := ⟨RJ12, "valueOf", "(I)Ljava/lang/Integer;"⟩
def dkwJ12_valueOf_1 : List UInt8 := [187, 0, 1, 89, 26, 183, 0, 199, 176]
abbrev dktJ12_valueOf_1 : List UInt8 := dkwJ12_valueOf_1 ++ []
def dkwJ12_valueOf_0 : List UInt8 := [26, 16, 128, 161, 0, 20, 26, 178, 0, 191, 163, 0, 13, 178, 0, 195, 26, 17, 0, 128, 96, 50, 176]
abbrev dktJ12_valueOf_0 : List UInt8 := dkwJ12_valueOf_0 ++ dktJ12_valueOf_1
theorem dksJ12_valueOf_0 : cJ12_valueOf.data.toList.drop 0 = dktJ12_valueOf_0 := by decide +kernel
theorem dksJ12_valueOf_1 : cJ12_valueOf.data.toList.drop 23 = dktJ12_valueOf_1 := dk_seg dksJ12_valueOf_0 23 rfl rfl
theorem dJ12_valueOf_0 : decode cJ12_valueOf 0 = .ok (.iload_n 0, 1) := dk_26 (dk_at dksJ12_valueOf_0 0 rfl rfl)
theorem dJ12_valueOf_1 : decode cJ12_valueOf 1 = .ok (.bipush (-128), 2) := dk_16 128 (dk_at dksJ12_valueOf_0 1 rfl rfl)
theorem dJ12_valueOf_3 : decode cJ12_valueOf 3 = .ok (.if_icmp .lt 20, 3) := dk_161 0 20 (dk_at dksJ12_valueOf_0 3 rfl rfl)
theorem dJ12_valueOf_6 : decode cJ12_valueOf 6 = .ok (.iload_n 0, 1) := dk_26 (dk_at dksJ12_valueOf_0 6 rfl rfl)
theorem dJ12_valueOf_7 : decode cJ12_valueOf 7 = .ok (.getstatic 191, 3) := dk_178 0 191 (dk_at dksJ12_valueOf_0 7 rfl rfl)
theorem dJ12_valueOf_10 : decode cJ12_valueOf 10 = .ok (.if_icmp .gt 13, 3) := dk_163 0 13 (dk_at dksJ12_valueOf_0 10 rfl rfl)
theorem dJ12_valueOf_13 : decode cJ12_valueOf 13 = .ok (.getstatic 195, 3) := dk_178 0 195 (dk_at dksJ12_valueOf_0 13 rfl rfl)
theorem dJ12_valueOf_16 : decode cJ12_valueOf 16 = .ok (.iload_n 0, 1) := dk_26 (dk_at dksJ12_valueOf_0 16 rfl rfl)
theorem dJ12_valueOf_17 : decode cJ12_valueOf 17 = .ok (.sipush 128, 3) := dk_17 0 128 (dk_at dksJ12_valueOf_0 17 rfl rfl)
theorem dJ12_valueOf_20 : decode cJ12_valueOf 20 = .ok (.iadd, 1) := dk_96 (dk_at dksJ12_valueOf_0 20 rfl rfl)
theorem dJ12_valueOf_21 : decode cJ12_valueOf 21 = .ok (.aaload, 1) := dk_50 (dk_at dksJ12_valueOf_0 21 rfl rfl)
theorem dJ12_valueOf_22 : decode cJ12_valueOf 22 = .ok (.areturn, 1) := dk_176 (dk_at dksJ12_valueOf_0 22 rfl rfl)
theorem dJ12_valueOf_23 : decode cJ12_valueOf 23 = .ok (.new 1, 3) := dk_187 0 1 (dk_at dksJ12_valueOf_1 0 rfl rfl)
theorem dJ12_valueOf_26 : decode cJ12_valueOf 26 = .ok (.dup, 1) := dk_89 (dk_at dksJ12_valueOf_1 3 rfl rfl)
theorem dJ12_valueOf_27 : decode cJ12_valueOf 27 = .ok (.iload_n 0, 1) := dk_26 (dk_at dksJ12_valueOf_1 4 rfl rfl)
theorem dJ12_valueOf_28 : decode cJ12_valueOf 28 = .ok (.invokespecial 199, 3) := dk_183 0 199 (dk_at dksJ12_valueOf_1 5 rfl rfl)
theorem dJ12_valueOf_31 : decode cJ12_valueOf 31 = .ok (.areturn, 1) := dk_176 (dk_at dksJ12_valueOf_1 8 rfl rfl)
abbrev cJ12_init : ByteArray := prog_33_method_23_code
def yJ12_init : MethodName := ⟨RJ12, "<init>", "(I)V"⟩
def dkwJ12_init_0 : List UInt8 := [42, 183, 0, 202, 42, 27, 181, 0, 205, 177]
abbrev dktJ12_init_0 : List UInt8 := dkwJ12_init_0 ++ []
theorem dksJ12_init_0 : cJ12_init.data.toList.drop 0 = dktJ12_init_0 := by decide +kernel
theorem dJ12_init_0 : decode cJ12_init 0 = .ok (.aload_n 0, 1) := dk_42 (dk_at dksJ12_init_0 0 rfl rfl)
theorem dJ12_init_1 : decode cJ12_init 1 = .ok (.invokespecial 202, 3) := dk_183 0 202 (dk_at dksJ12_init_0 1 rfl rfl)
theorem dJ12_init_4 : decode cJ12_init 4 = .ok (.aload_n 0, 1) := dk_42 (dk_at dksJ12_init_0 4 rfl rfl)
theorem dJ12_init_5 : decode cJ12_init 5 = .ok (.iload_n 1, 1) := dk_27 (dk_at dksJ12_init_0 5 rfl rfl)
theorem dJ12_init_6 : decode cJ12_init 6 = .ok (.putfield 205, 3) := dk_181 0 205 (dk_at dksJ12_init_0 6 rfl rfl)
theorem dJ12_init_9 : decode cJ12_init 9 = .ok (.return_, 1) := dk_177 (dk_at dksJ12_init_0 9 rfl rfl)
theorem q111 : (Jvm.Cond.initialized "java/lang/Integer") ∈ lw_all := lw_g (lw_at lw_m1 19 rfl) rfl
theorem q442 : (Jvm.Cond.selects "java/lang/Integer" ({ cls := "java/lang/Object", name := "getClass", desc := "()Ljava/lang/Class;" } : Jvm.MethodName) ({ cls := "java/lang/Object", name := "getClass", desc := "()Ljava/lang/Class;" } : Jvm.MethodName)) ∈ lw_all := lw_g (lw_at lw_m2 110 rfl) rfl
theorem q501 : (Jvm.Cond.selects "java/lang/Integer" ({ cls := "java/lang/Object", name := "hashCode", desc := "()I" } : Jvm.MethodName) ({ cls := "java/lang/Integer", name := "hashCode", desc := "()I" } : Jvm.MethodName)) ∈ lw_all := lw_g (lw_at lw_m2 169 rfl) rfl
theorem q502 : (Jvm.Cond.instanceMethod ({ cls := "java/lang/Integer", name := "hashCode", desc := "()I" } : Jvm.MethodName)) ∈ lw_all := lw_g (lw_at lw_m2 170 rfl) rfl
theorem q503 : (Jvm.Cond.code ({ cls := "java/lang/Integer", name := "hashCode", desc := "()I" } : Jvm.MethodName) prog_33_method_32_code (1 : Nat) (Option.some Jvm.ClassFile.FieldType.int)) ∈ lw_all := lw_g (lw_at lw_m2 171 rfl) rfl
theorem q504 : (Jvm.Cond.methodLink "java/lang/Integer" (208 : Nat) ({ cls := "java/lang/Integer", name := "hashCode", desc := "(I)I" } : Jvm.MethodName)) ∈ lw_all := lw_g (lw_at lw_m2 172 rfl) rfl
theorem q505 : (Jvm.Cond.static ({ cls := "java/lang/Integer", name := "hashCode", desc := "(I)I" } : Jvm.MethodName)) ∈ lw_all := lw_g (lw_at lw_m2 173 rfl) rfl
theorem q506 : (Jvm.Cond.code ({ cls := "java/lang/Integer", name := "hashCode", desc := "(I)I" } : Jvm.MethodName) prog_33_method_33_code (1 : Nat) (Option.some Jvm.ClassFile.FieldType.int)) ∈ lw_all := lw_g (lw_at lw_m2 174 rfl) rfl
theorem q601 : (Jvm.Cond.selects "java/lang/Integer" ({ cls := "java/lang/Object", name := "equals", desc := "(Ljava/lang/Object;)Z" } : Jvm.MethodName) ({ cls := "java/lang/Integer", name := "equals", desc := "(Ljava/lang/Object;)Z" } : Jvm.MethodName)) ∈ lw_all := lw_g (lw_at lw_m3 29 rfl) rfl
theorem q602 : (Jvm.Cond.instanceMethod ({ cls := "java/lang/Integer", name := "equals", desc := "(Ljava/lang/Object;)Z" } : Jvm.MethodName)) ∈ lw_all := lw_g (lw_at lw_m3 30 rfl) rfl
theorem q603 : (Jvm.Cond.code ({ cls := "java/lang/Integer", name := "equals", desc := "(Ljava/lang/Object;)Z" } : Jvm.MethodName) prog_33_method_34_code (2 : Nat) (Option.some Jvm.ClassFile.FieldType.boolean)) ∈ lw_all := lw_g (lw_at lw_m3 31 rfl) rfl
theorem q604 : (Jvm.Cond.classLink "java/lang/Integer" (1 : Nat) "java/lang/Integer") ∈ lw_all := lw_g (lw_at lw_m3 32 rfl) rfl
theorem q605 : (Jvm.Cond.methodLink "java/lang/Integer" (211 : Nat) ({ cls := "java/lang/Integer", name := "intValue", desc := "()I" } : Jvm.MethodName)) ∈ lw_all := lw_g (lw_at lw_m3 33 rfl) rfl
theorem q606 : (Jvm.Cond.instanceMethod ({ cls := "java/lang/Integer", name := "intValue", desc := "()I" } : Jvm.MethodName)) ∈ lw_all := lw_g (lw_at lw_m3 34 rfl) rfl
theorem q607 : (Jvm.Cond.selects "java/lang/Integer" ({ cls := "java/lang/Integer", name := "intValue", desc := "()I" } : Jvm.MethodName) ({ cls := "java/lang/Integer", name := "intValue", desc := "()I" } : Jvm.MethodName)) ∈ lw_all := lw_g (lw_at lw_m3 35 rfl) rfl
theorem q608 : (Jvm.Cond.code ({ cls := "java/lang/Integer", name := "intValue", desc := "()I" } : Jvm.MethodName) prog_33_method_27_code (1 : Nat) (Option.some Jvm.ClassFile.FieldType.int)) ∈ lw_all := lw_g (lw_at lw_m3 36 rfl) rfl
theorem q647 : (Jvm.Cond.castable "java/lang/Integer" "java/lang/Comparable") ∈ lw_tbl := lw_at lw_m3 75 rfl
theorem q648 : (Jvm.Cond.selects "java/lang/Integer" ({ cls := "java/lang/Comparable", name := "compareTo", desc := "(Ljava/lang/Object;)I" } : Jvm.MethodName) ({ cls := "java/lang/Integer", name := "compareTo", desc := "(Ljava/lang/Object;)I" } : Jvm.MethodName)) ∈ lw_all := lw_g (lw_at lw_m3 76 rfl) rfl
theorem q649 : (Jvm.Cond.unhidden "java/lang/Integer" "compareTo" "(Ljava/lang/Object;)I") ∈ lw_tbl := lw_at lw_m3 77 rfl
theorem q650 : (Jvm.Cond.instanceMethod ({ cls := "java/lang/Integer", name := "compareTo", desc := "(Ljava/lang/Object;)I" } : Jvm.MethodName)) ∈ lw_all := lw_g (lw_at lw_m3 78 rfl) rfl
theorem q651 : (Jvm.Cond.publicMethod ({ cls := "java/lang/Integer", name := "compareTo", desc := "(Ljava/lang/Object;)I" } : Jvm.MethodName)) ∈ lw_tbl := lw_at lw_m3 79 rfl
theorem q652 : (Jvm.Cond.code ({ cls := "java/lang/Integer", name := "compareTo", desc := "(Ljava/lang/Object;)I" } : Jvm.MethodName) prog_33_method_63_code (2 : Nat) (Option.some Jvm.ClassFile.FieldType.int)) ∈ lw_all := lw_g (lw_at lw_m3 80 rfl) rfl
theorem q653 : (Jvm.Cond.methodLink "java/lang/Integer" (284 : Nat) ({ cls := "java/lang/Integer", name := "compareTo", desc := "(Ljava/lang/Integer;)I" } : Jvm.MethodName)) ∈ lw_all := lw_g (lw_at lw_m3 81 rfl) rfl
theorem q654 : (Jvm.Cond.instanceMethod ({ cls := "java/lang/Integer", name := "compareTo", desc := "(Ljava/lang/Integer;)I" } : Jvm.MethodName)) ∈ lw_all := lw_g (lw_at lw_m3 82 rfl) rfl
theorem q655 : (Jvm.Cond.selects "java/lang/Integer" ({ cls := "java/lang/Integer", name := "compareTo", desc := "(Ljava/lang/Integer;)I" } : Jvm.MethodName) ({ cls := "java/lang/Integer", name := "compareTo", desc := "(Ljava/lang/Integer;)I" } : Jvm.MethodName)) ∈ lw_all := lw_g (lw_at lw_m3 83 rfl) rfl
theorem q656 : (Jvm.Cond.code ({ cls := "java/lang/Integer", name := "compareTo", desc := "(Ljava/lang/Integer;)I" } : Jvm.MethodName) prog_33_method_39_code (2 : Nat) (Option.some Jvm.ClassFile.FieldType.int)) ∈ lw_all := lw_g (lw_at lw_m3 84 rfl) rfl
theorem q657 : (Jvm.Cond.methodLink "java/lang/Integer" (259 : Nat) ({ cls := "java/lang/Integer", name := "compare", desc := "(II)I" } : Jvm.MethodName)) ∈ lw_all := lw_g (lw_at lw_m3 85 rfl) rfl
theorem q658 : (Jvm.Cond.static ({ cls := "java/lang/Integer", name := "compare", desc := "(II)I" } : Jvm.MethodName)) ∈ lw_all := lw_g (lw_at lw_m3 86 rfl) rfl
theorem q659 : (Jvm.Cond.code ({ cls := "java/lang/Integer", name := "compare", desc := "(II)I" } : Jvm.MethodName) prog_33_method_40_code (2 : Nat) (Option.some Jvm.ClassFile.FieldType.int)) ∈ lw_all := lw_g (lw_at lw_m3 87 rfl) rfl
theorem q753 : (Jvm.Cond.static ({ cls := "java/lang/Integer", name := "numberOfLeadingZeros", desc := "(I)I" } : Jvm.MethodName)) ∈ lw_all := lw_g (lw_at lw_m3 181 rfl) rfl
theorem q754 : (Jvm.Cond.code ({ cls := "java/lang/Integer", name := "numberOfLeadingZeros", desc := "(I)I" } : Jvm.MethodName) prog_33_method_47_code (2 : Nat) (Option.some Jvm.ClassFile.FieldType.int)) ∈ lw_all := lw_g (lw_at lw_m3 182 rfl) rfl
theorem q755 : (Jvm.Cond.constant "java/lang/Integer" (264 : Nat) (65536 : Int32)) ∈ lw_all := lw_g (lw_at lw_m3 183 rfl) rfl
theorem q762 : (Jvm.Cond.static ({ cls := "java/lang/Integer", name := "numberOfTrailingZeros", desc := "(I)I" } : Jvm.MethodName)) ∈ lw_all := lw_g (lw_at lw_m3 190 rfl) rfl
theorem q763 : (Jvm.Cond.code ({ cls := "java/lang/Integer", name := "numberOfTrailingZeros", desc := "(I)I" } : Jvm.MethodName) prog_33_method_48_code (2 : Nat) (Option.some Jvm.ClassFile.FieldType.int)) ∈ lw_all := lw_g (lw_at lw_m3 191 rfl) rfl
theorem q1914 : (Jvm.Cond.static ({ cls := "java/lang/Integer", name := "valueOf", desc := "(I)Ljava/lang/Integer;" } : Jvm.MethodName)) ∈ lw_all := lw_g (lw_at lw_m8 142 rfl) rfl
theorem q1915 : (Jvm.Cond.code ({ cls := "java/lang/Integer", name := "valueOf", desc := "(I)Ljava/lang/Integer;" } : Jvm.MethodName) prog_33_method_22_code (1 : Nat) (Option.some (Jvm.ClassFile.FieldType.object "java/lang/Integer"))) ∈ lw_all := lw_g (lw_at lw_m8 143 rfl) rfl
theorem q1916 : (Jvm.Cond.fieldLink "java/lang/Integer" (191 : Nat) "java/lang/Integer$IntegerCache" "high" "I") ∈ lw_all := lw_g (lw_at lw_m8 144 rfl) rfl
theorem q1918 : (Jvm.Cond.fieldLink "java/lang/Integer" (195 : Nat) "java/lang/Integer$IntegerCache" "cache" "[Ljava/lang/Integer;") ∈ lw_all := lw_g (lw_at lw_m8 146 rfl) rfl
theorem q1920 : (Jvm.Cond.instantiable "java/lang/Integer" (1 : Nat)) ∈ lw_all := lw_g (lw_at lw_m8 148 rfl) rfl
theorem q1921 : (Jvm.Cond.methodLink "java/lang/Integer" (199 : Nat) ({ cls := "java/lang/Integer", name := "<init>", desc := "(I)V" } : Jvm.MethodName)) ∈ lw_all := lw_g (lw_at lw_m8 149 rfl) rfl
theorem q1922 : (Jvm.Cond.instanceMethod ({ cls := "java/lang/Integer", name := "<init>", desc := "(I)V" } : Jvm.MethodName)) ∈ lw_all := lw_g (lw_at lw_m8 150 rfl) rfl
theorem q1923 : (Jvm.Cond.code ({ cls := "java/lang/Integer", name := "<init>", desc := "(I)V" } : Jvm.MethodName) prog_33_method_23_code (2 : Nat) (Option.none : Option Jvm.ClassFile.FieldType)) ∈ lw_all := lw_g (lw_at lw_m8 151 rfl) rfl
theorem q1924 : (Jvm.Cond.methodLink "java/lang/Integer" (202 : Nat) ({ cls := "java/lang/Number", name := "<init>", desc := "()V" } : Jvm.MethodName)) ∈ lw_all := lw_g (lw_at lw_m8 152 rfl) rfl
theorem q1928 : (Jvm.Cond.fieldLink "java/lang/Integer" (205 : Nat) "java/lang/Integer" "value" "I") ∈ lw_all := lw_g (lw_at lw_m8 156 rfl) rfl
theorem q1929 : (Jvm.Cond.laysFinal "java/lang/Integer" "java/lang/Integer" "value" "I") ∈ lw_all := lw_g (lw_at lw_m8 157 rfl) rfl
theorem q1930 : (Jvm.Cond.soleField "java/lang/Integer" "value") ∈ lw_all := lw_g (lw_at lw_m8 158 rfl) rfl
theorem q1931 : (Jvm.Cond.superclass "java/lang/Integer" "java/lang/Number") ∈ lw_all := lw_g (lw_at lw_m8 159 rfl) rfl
theorem q2963 : (Jvm.Cond.castable "java/lang/Integer" "java/lang/Object") ∈ lw_tbl := lw_at lw_m12 231 rfl
theorem in_J12 : ∀ w ∈ wsJ120, w ∈ lw_all := lw_in wsJ120 [1929] (by decide +kernel) (by decide +kernel)

/-! java/lang/String -/
set_option maxRecDepth 100000
def RJ13 : String := "java/lang/String"
def TJ13 : u_T := fun k => match k with
  | 0 => ("java/lang/String", "value", "[B", true)
  | 1 => ("java/lang/String", "coder", "B", true)
  | 2 => ("java/lang/String", "hash", "I", false)
  | _ => ("java/lang/String", "hashIsZero", "Z", false)
def tyJ13 : Nat → FieldType := fun k => match k with
  | 0 => .array .byte
  | 1 => .byte
  | 2 => .int
  | _ => .boolean
abbrev wsJ130 : List Cond := u_ws RJ13 TJ13 4
theorem nmJ13 : ∀ a, a < 4 → ∀ b, b < 4 → a ≠ b → (TJ13 a).2.1 ≠ (TJ13 b).2.1 := by decide +kernel
theorem tyJ13_ok : ∀ k, k < 4 → parseFieldDescriptor (TJ13 k).2.2.1 = some (tyJ13 k) := by decide +kernel
abbrev cJ13_hashCode : ByteArray := prog_41_method_78_code
def yJ13_hashCode : MethodName := ⟨RJ13, "hashCode", "()I"⟩
def dkwJ13_hashCode_2 : List UInt8 := [181, 0, 23, 167, 0, 8, 42, 27, 181, 0, 19, 27, 172]
abbrev dktJ13_hashCode_2 : List UInt8 := dkwJ13_hashCode_2 ++ []
def dkwJ13_hashCode_1 : List UInt8 := [180, 0, 9, 184, 2, 116, 167, 0, 10, 42, 180, 0, 9, 184, 2, 120, 60, 27, 154, 0, 11, 42, 4]
abbrev dktJ13_hashCode_1 : List UInt8 := dkwJ13_hashCode_1 ++ dktJ13_hashCode_2
def dkwJ13_hashCode_0 : List UInt8 := [42, 180, 0, 19, 60, 27, 154, 0, 52, 42, 180, 0, 23, 154, 0, 45, 42, 182, 1, 236, 153, 0, 13, 42]
abbrev dktJ13_hashCode_0 : List UInt8 := dkwJ13_hashCode_0 ++ dktJ13_hashCode_1
theorem dksJ13_hashCode_0 : cJ13_hashCode.data.toList.drop 0 = dktJ13_hashCode_0 := by decide +kernel
theorem dksJ13_hashCode_1 : cJ13_hashCode.data.toList.drop 24 = dktJ13_hashCode_1 := dk_seg dksJ13_hashCode_0 24 rfl rfl
theorem dksJ13_hashCode_2 : cJ13_hashCode.data.toList.drop 47 = dktJ13_hashCode_2 := dk_seg dksJ13_hashCode_1 23 rfl rfl
theorem dJ13_hashCode_0 : decode cJ13_hashCode 0 = .ok (.aload_n 0, 1) := dk_42 (dk_at dksJ13_hashCode_0 0 rfl rfl)
theorem dJ13_hashCode_1 : decode cJ13_hashCode 1 = .ok (.getfield 19, 3) := dk_180 0 19 (dk_at dksJ13_hashCode_0 1 rfl rfl)
theorem dJ13_hashCode_4 : decode cJ13_hashCode 4 = .ok (.istore_n 1, 1) := dk_60 (dk_at dksJ13_hashCode_0 4 rfl rfl)
theorem dJ13_hashCode_5 : decode cJ13_hashCode 5 = .ok (.iload_n 1, 1) := dk_27 (dk_at dksJ13_hashCode_0 5 rfl rfl)
theorem dJ13_hashCode_6 : decode cJ13_hashCode 6 = .ok (.ifCond .ne 52, 3) := dk_154 0 52 (dk_at dksJ13_hashCode_0 6 rfl rfl)
theorem dJ13_hashCode_9 : decode cJ13_hashCode 9 = .ok (.aload_n 0, 1) := dk_42 (dk_at dksJ13_hashCode_0 9 rfl rfl)
theorem dJ13_hashCode_10 : decode cJ13_hashCode 10 = .ok (.getfield 23, 3) := dk_180 0 23 (dk_at dksJ13_hashCode_0 10 rfl rfl)
theorem dJ13_hashCode_13 : decode cJ13_hashCode 13 = .ok (.ifCond .ne 45, 3) := dk_154 0 45 (dk_at dksJ13_hashCode_0 13 rfl rfl)
theorem dJ13_hashCode_16 : decode cJ13_hashCode 16 = .ok (.aload_n 0, 1) := dk_42 (dk_at dksJ13_hashCode_0 16 rfl rfl)
theorem dJ13_hashCode_17 : decode cJ13_hashCode 17 = .ok (.invokevirtual 492, 3) := dk_182 1 236 (dk_at dksJ13_hashCode_0 17 rfl rfl)
theorem dJ13_hashCode_20 : decode cJ13_hashCode 20 = .ok (.ifCond .eq 13, 3) := dk_153 0 13 (dk_at dksJ13_hashCode_0 20 rfl rfl)
theorem dJ13_hashCode_23 : decode cJ13_hashCode 23 = .ok (.aload_n 0, 1) := dk_42 (dk_at dksJ13_hashCode_0 23 rfl rfl)
theorem dJ13_hashCode_24 : decode cJ13_hashCode 24 = .ok (.getfield 9, 3) := dk_180 0 9 (dk_at dksJ13_hashCode_1 0 rfl rfl)
theorem dJ13_hashCode_27 : decode cJ13_hashCode 27 = .ok (.invokestatic 628, 3) := dk_184 2 116 (dk_at dksJ13_hashCode_1 3 rfl rfl)
theorem dJ13_hashCode_30 : decode cJ13_hashCode 30 = .ok (.goto 10, 3) := dk_167 0 10 (dk_at dksJ13_hashCode_1 6 rfl rfl)
theorem dJ13_hashCode_33 : decode cJ13_hashCode 33 = .ok (.aload_n 0, 1) := dk_42 (dk_at dksJ13_hashCode_1 9 rfl rfl)
theorem dJ13_hashCode_34 : decode cJ13_hashCode 34 = .ok (.getfield 9, 3) := dk_180 0 9 (dk_at dksJ13_hashCode_1 10 rfl rfl)
theorem dJ13_hashCode_37 : decode cJ13_hashCode 37 = .ok (.invokestatic 632, 3) := dk_184 2 120 (dk_at dksJ13_hashCode_1 13 rfl rfl)
theorem dJ13_hashCode_40 : decode cJ13_hashCode 40 = .ok (.istore_n 1, 1) := dk_60 (dk_at dksJ13_hashCode_1 16 rfl rfl)
theorem dJ13_hashCode_41 : decode cJ13_hashCode 41 = .ok (.iload_n 1, 1) := dk_27 (dk_at dksJ13_hashCode_1 17 rfl rfl)
theorem dJ13_hashCode_42 : decode cJ13_hashCode 42 = .ok (.ifCond .ne 11, 3) := dk_154 0 11 (dk_at dksJ13_hashCode_1 18 rfl rfl)
theorem dJ13_hashCode_45 : decode cJ13_hashCode 45 = .ok (.aload_n 0, 1) := dk_42 (dk_at dksJ13_hashCode_1 21 rfl rfl)
theorem dJ13_hashCode_46 : decode cJ13_hashCode 46 = .ok (.iconst 1, 1) := dk_4 (dk_at dksJ13_hashCode_1 22 rfl rfl)
theorem dJ13_hashCode_47 : decode cJ13_hashCode 47 = .ok (.putfield 23, 3) := dk_181 0 23 (dk_at dksJ13_hashCode_2 0 rfl rfl)
theorem dJ13_hashCode_50 : decode cJ13_hashCode 50 = .ok (.goto 8, 3) := dk_167 0 8 (dk_at dksJ13_hashCode_2 3 rfl rfl)
theorem dJ13_hashCode_53 : decode cJ13_hashCode 53 = .ok (.aload_n 0, 1) := dk_42 (dk_at dksJ13_hashCode_2 6 rfl rfl)
theorem dJ13_hashCode_54 : decode cJ13_hashCode 54 = .ok (.iload_n 1, 1) := dk_27 (dk_at dksJ13_hashCode_2 7 rfl rfl)
theorem dJ13_hashCode_55 : decode cJ13_hashCode 55 = .ok (.putfield 19, 3) := dk_181 0 19 (dk_at dksJ13_hashCode_2 8 rfl rfl)
theorem dJ13_hashCode_58 : decode cJ13_hashCode 58 = .ok (.iload_n 1, 1) := dk_27 (dk_at dksJ13_hashCode_2 11 rfl rfl)
theorem dJ13_hashCode_59 : decode cJ13_hashCode 59 = .ok (.ireturn, 1) := dk_172 (dk_at dksJ13_hashCode_2 12 rfl rfl)
abbrev cJ13_isLatin1 : ByteArray := prog_41_method_154_code
def yJ13_isLatin1 : MethodName := ⟨RJ13, "isLatin1", "()Z"⟩
def dkwJ13_isLatin1_0 : List UInt8 := [178, 0, 38, 153, 0, 14, 42, 180, 0, 15, 154, 0, 7, 4, 167, 0, 4, 3, 172]
abbrev dktJ13_isLatin1_0 : List UInt8 := dkwJ13_isLatin1_0 ++ []
theorem dksJ13_isLatin1_0 : cJ13_isLatin1.data.toList.drop 0 = dktJ13_isLatin1_0 := by decide +kernel
theorem dJ13_isLatin1_0 : decode cJ13_isLatin1 0 = .ok (.getstatic 38, 3) := dk_178 0 38 (dk_at dksJ13_isLatin1_0 0 rfl rfl)
theorem dJ13_isLatin1_3 : decode cJ13_isLatin1 3 = .ok (.ifCond .eq 14, 3) := dk_153 0 14 (dk_at dksJ13_isLatin1_0 3 rfl rfl)
theorem dJ13_isLatin1_6 : decode cJ13_isLatin1 6 = .ok (.aload_n 0, 1) := dk_42 (dk_at dksJ13_isLatin1_0 6 rfl rfl)
theorem dJ13_isLatin1_7 : decode cJ13_isLatin1 7 = .ok (.getfield 15, 3) := dk_180 0 15 (dk_at dksJ13_isLatin1_0 7 rfl rfl)
theorem dJ13_isLatin1_10 : decode cJ13_isLatin1 10 = .ok (.ifCond .ne 7, 3) := dk_154 0 7 (dk_at dksJ13_isLatin1_0 10 rfl rfl)
theorem dJ13_isLatin1_13 : decode cJ13_isLatin1 13 = .ok (.iconst 1, 1) := dk_4 (dk_at dksJ13_isLatin1_0 13 rfl rfl)
theorem dJ13_isLatin1_14 : decode cJ13_isLatin1 14 = .ok (.goto 4, 3) := dk_167 0 4 (dk_at dksJ13_isLatin1_0 14 rfl rfl)
theorem dJ13_isLatin1_17 : decode cJ13_isLatin1 17 = .ok (.iconst 0, 1) := dk_3 (dk_at dksJ13_isLatin1_0 17 rfl rfl)
theorem dJ13_isLatin1_18 : decode cJ13_isLatin1 18 = .ok (.ireturn, 1) := dk_172 (dk_at dksJ13_isLatin1_0 18 rfl rfl)
abbrev cJ13_equals : ByteArray := prog_41_method_66_code
def yJ13_equals : MethodName := ⟨RJ13, "equals", "(Ljava/lang/Object;)Z"⟩
def dkwJ13_equals_2 : List UInt8 := [184, 2, 29, 153, 0, 7, 4, 167, 0, 4, 3, 172]
abbrev dktJ13_equals_2 : List UInt8 := dkwJ13_equals_2 ++ []
def dkwJ13_equals_1 : List UInt8 := [153, 0, 14, 42, 180, 0, 15, 44, 180, 0, 15, 160, 0, 21, 42, 180, 0, 9, 44, 180, 0, 9]
abbrev dktJ13_equals_1 : List UInt8 := dkwJ13_equals_1 ++ dktJ13_equals_2
def dkwJ13_equals_0 : List UInt8 := [42, 43, 166, 0, 5, 4, 172, 43, 193, 0, 10, 153, 0, 43, 43, 192, 0, 10, 77, 178, 0, 38]
abbrev dktJ13_equals_0 : List UInt8 := dkwJ13_equals_0 ++ dktJ13_equals_1
theorem dksJ13_equals_0 : cJ13_equals.data.toList.drop 0 = dktJ13_equals_0 := by decide +kernel
theorem dksJ13_equals_1 : cJ13_equals.data.toList.drop 22 = dktJ13_equals_1 := dk_seg dksJ13_equals_0 22 rfl rfl
theorem dksJ13_equals_2 : cJ13_equals.data.toList.drop 44 = dktJ13_equals_2 := dk_seg dksJ13_equals_1 22 rfl rfl
theorem dJ13_equals_0 : decode cJ13_equals 0 = .ok (.aload_n 0, 1) := dk_42 (dk_at dksJ13_equals_0 0 rfl rfl)
theorem dJ13_equals_1 : decode cJ13_equals 1 = .ok (.aload_n 1, 1) := dk_43 (dk_at dksJ13_equals_0 1 rfl rfl)
theorem dJ13_equals_2 : decode cJ13_equals 2 = .ok (.if_acmp .ne 5, 3) := dk_166 0 5 (dk_at dksJ13_equals_0 2 rfl rfl)
theorem dJ13_equals_5 : decode cJ13_equals 5 = .ok (.iconst 1, 1) := dk_4 (dk_at dksJ13_equals_0 5 rfl rfl)
theorem dJ13_equals_6 : decode cJ13_equals 6 = .ok (.ireturn, 1) := dk_172 (dk_at dksJ13_equals_0 6 rfl rfl)
theorem dJ13_equals_7 : decode cJ13_equals 7 = .ok (.aload_n 1, 1) := dk_43 (dk_at dksJ13_equals_0 7 rfl rfl)
theorem dJ13_equals_8 : decode cJ13_equals 8 = .ok (.instanceof 10, 3) := dk_193 0 10 (dk_at dksJ13_equals_0 8 rfl rfl)
theorem dJ13_equals_11 : decode cJ13_equals 11 = .ok (.ifCond .eq 43, 3) := dk_153 0 43 (dk_at dksJ13_equals_0 11 rfl rfl)
theorem dJ13_equals_14 : decode cJ13_equals 14 = .ok (.aload_n 1, 1) := dk_43 (dk_at dksJ13_equals_0 14 rfl rfl)
theorem dJ13_equals_15 : decode cJ13_equals 15 = .ok (.checkcast 10, 3) := dk_192 0 10 (dk_at dksJ13_equals_0 15 rfl rfl)
theorem dJ13_equals_18 : decode cJ13_equals 18 = .ok (.astore_n 2, 1) := dk_77 (dk_at dksJ13_equals_0 18 rfl rfl)
theorem dJ13_equals_19 : decode cJ13_equals 19 = .ok (.getstatic 38, 3) := dk_178 0 38 (dk_at dksJ13_equals_0 19 rfl rfl)
theorem dJ13_equals_22 : decode cJ13_equals 22 = .ok (.ifCond .eq 14, 3) := dk_153 0 14 (dk_at dksJ13_equals_1 0 rfl rfl)
theorem dJ13_equals_25 : decode cJ13_equals 25 = .ok (.aload_n 0, 1) := dk_42 (dk_at dksJ13_equals_1 3 rfl rfl)
theorem dJ13_equals_26 : decode cJ13_equals 26 = .ok (.getfield 15, 3) := dk_180 0 15 (dk_at dksJ13_equals_1 4 rfl rfl)
theorem dJ13_equals_29 : decode cJ13_equals 29 = .ok (.aload_n 2, 1) := dk_44 (dk_at dksJ13_equals_1 7 rfl rfl)
theorem dJ13_equals_30 : decode cJ13_equals 30 = .ok (.getfield 15, 3) := dk_180 0 15 (dk_at dksJ13_equals_1 8 rfl rfl)
theorem dJ13_equals_33 : decode cJ13_equals 33 = .ok (.if_icmp .ne 21, 3) := dk_160 0 21 (dk_at dksJ13_equals_1 11 rfl rfl)
theorem dJ13_equals_36 : decode cJ13_equals 36 = .ok (.aload_n 0, 1) := dk_42 (dk_at dksJ13_equals_1 14 rfl rfl)
theorem dJ13_equals_37 : decode cJ13_equals 37 = .ok (.getfield 9, 3) := dk_180 0 9 (dk_at dksJ13_equals_1 15 rfl rfl)
theorem dJ13_equals_40 : decode cJ13_equals 40 = .ok (.aload_n 2, 1) := dk_44 (dk_at dksJ13_equals_1 18 rfl rfl)
theorem dJ13_equals_41 : decode cJ13_equals 41 = .ok (.getfield 9, 3) := dk_180 0 9 (dk_at dksJ13_equals_1 19 rfl rfl)
theorem dJ13_equals_44 : decode cJ13_equals 44 = .ok (.invokestatic 541, 3) := dk_184 2 29 (dk_at dksJ13_equals_2 0 rfl rfl)
theorem dJ13_equals_47 : decode cJ13_equals 47 = .ok (.ifCond .eq 7, 3) := dk_153 0 7 (dk_at dksJ13_equals_2 3 rfl rfl)
theorem dJ13_equals_50 : decode cJ13_equals 50 = .ok (.iconst 1, 1) := dk_4 (dk_at dksJ13_equals_2 6 rfl rfl)
theorem dJ13_equals_51 : decode cJ13_equals 51 = .ok (.goto 4, 3) := dk_167 0 4 (dk_at dksJ13_equals_2 7 rfl rfl)
theorem dJ13_equals_54 : decode cJ13_equals 54 = .ok (.iconst 0, 1) := dk_3 (dk_at dksJ13_equals_2 10 rfl rfl)
theorem dJ13_equals_55 : decode cJ13_equals 55 = .ok (.ireturn, 1) := dk_172 (dk_at dksJ13_equals_2 11 rfl rfl)
abbrev cJ13_compareTo : ByteArray := prog_41_method_162_code
def yJ13_compareTo : MethodName := ⟨RJ13, "compareTo", "(Ljava/lang/Object;)I"⟩
def dkwJ13_compareTo_0 : List UInt8 := [42, 43, 192, 0, 10, 182, 4, 60, 172]
abbrev dktJ13_compareTo_0 : List UInt8 := dkwJ13_compareTo_0 ++ []
theorem dksJ13_compareTo_0 : cJ13_compareTo.data.toList.drop 0 = dktJ13_compareTo_0 := by decide +kernel
theorem dJ13_compareTo_0 : decode cJ13_compareTo 0 = .ok (.aload_n 0, 1) := dk_42 (dk_at dksJ13_compareTo_0 0 rfl rfl)
theorem dJ13_compareTo_1 : decode cJ13_compareTo 1 = .ok (.aload_n 1, 1) := dk_43 (dk_at dksJ13_compareTo_0 1 rfl rfl)
theorem dJ13_compareTo_2 : decode cJ13_compareTo 2 = .ok (.checkcast 10, 3) := dk_192 0 10 (dk_at dksJ13_compareTo_0 2 rfl rfl)
theorem dJ13_compareTo_5 : decode cJ13_compareTo 5 = .ok (.invokevirtual 1084, 3) := dk_182 4 60 (dk_at dksJ13_compareTo_0 5 rfl rfl)
theorem dJ13_compareTo_8 : decode cJ13_compareTo 8 = .ok (.ireturn, 1) := dk_172 (dk_at dksJ13_compareTo_0 8 rfl rfl)
abbrev cJ13_compareTo_2 : ByteArray := prog_41_method_71_code
def yJ13_compareTo_2 : MethodName := ⟨RJ13, "compareTo", "(Ljava/lang/String;)I"⟩
def dkwJ13_compareTo_2_2 : List UInt8 := [154, 0, 11, 44, 45, 184, 2, 79, 167, 0, 8, 44, 45, 184, 2, 82, 172]
abbrev dktJ13_compareTo_2_2 : List UInt8 := dkwJ13_compareTo_2_2 ++ []
def dkwJ13_compareTo_2_1 : List UInt8 := [160, 0, 22, 21, 4, 154, 0, 11, 44, 45, 184, 2, 74, 167, 0, 8, 44, 45, 184, 2, 78, 172, 21, 4]
abbrev dktJ13_compareTo_2_1 : List UInt8 := dkwJ13_compareTo_2_1 ++ dktJ13_compareTo_2_2
def dkwJ13_compareTo_2_0 : List UInt8 := [42, 180, 0, 9, 77, 43, 180, 0, 9, 78, 42, 182, 1, 79, 54, 4, 21, 4, 43, 182, 1, 79]
abbrev dktJ13_compareTo_2_0 : List UInt8 := dkwJ13_compareTo_2_0 ++ dktJ13_compareTo_2_1
theorem dksJ13_compareTo_2_0 : cJ13_compareTo_2.data.toList.drop 0 = dktJ13_compareTo_2_0 := by decide +kernel
theorem dksJ13_compareTo_2_1 : cJ13_compareTo_2.data.toList.drop 22 = dktJ13_compareTo_2_1 := dk_seg dksJ13_compareTo_2_0 22 rfl rfl
theorem dksJ13_compareTo_2_2 : cJ13_compareTo_2.data.toList.drop 46 = dktJ13_compareTo_2_2 := dk_seg dksJ13_compareTo_2_1 24 rfl rfl
theorem dJ13_compareTo_2_0 : decode cJ13_compareTo_2 0 = .ok (.aload_n 0, 1) := dk_42 (dk_at dksJ13_compareTo_2_0 0 rfl rfl)
theorem dJ13_compareTo_2_1 : decode cJ13_compareTo_2 1 = .ok (.getfield 9, 3) := dk_180 0 9 (dk_at dksJ13_compareTo_2_0 1 rfl rfl)
theorem dJ13_compareTo_2_4 : decode cJ13_compareTo_2 4 = .ok (.astore_n 2, 1) := dk_77 (dk_at dksJ13_compareTo_2_0 4 rfl rfl)
theorem dJ13_compareTo_2_5 : decode cJ13_compareTo_2 5 = .ok (.aload_n 1, 1) := dk_43 (dk_at dksJ13_compareTo_2_0 5 rfl rfl)
theorem dJ13_compareTo_2_6 : decode cJ13_compareTo_2 6 = .ok (.getfield 9, 3) := dk_180 0 9 (dk_at dksJ13_compareTo_2_0 6 rfl rfl)
theorem dJ13_compareTo_2_9 : decode cJ13_compareTo_2 9 = .ok (.astore_n 3, 1) := dk_78 (dk_at dksJ13_compareTo_2_0 9 rfl rfl)
theorem dJ13_compareTo_2_10 : decode cJ13_compareTo_2 10 = .ok (.aload_n 0, 1) := dk_42 (dk_at dksJ13_compareTo_2_0 10 rfl rfl)
theorem dJ13_compareTo_2_11 : decode cJ13_compareTo_2 11 = .ok (.invokevirtual 335, 3) := dk_182 1 79 (dk_at dksJ13_compareTo_2_0 11 rfl rfl)
theorem dJ13_compareTo_2_14 : decode cJ13_compareTo_2 14 = .ok (.istore 4, 2) := dk_54 4 (dk_at dksJ13_compareTo_2_0 14 rfl rfl)
theorem dJ13_compareTo_2_16 : decode cJ13_compareTo_2 16 = .ok (.iload 4, 2) := dk_21 4 (dk_at dksJ13_compareTo_2_0 16 rfl rfl)
theorem dJ13_compareTo_2_18 : decode cJ13_compareTo_2 18 = .ok (.aload_n 1, 1) := dk_43 (dk_at dksJ13_compareTo_2_0 18 rfl rfl)
theorem dJ13_compareTo_2_19 : decode cJ13_compareTo_2 19 = .ok (.invokevirtual 335, 3) := dk_182 1 79 (dk_at dksJ13_compareTo_2_0 19 rfl rfl)
theorem dJ13_compareTo_2_22 : decode cJ13_compareTo_2 22 = .ok (.if_icmp .ne 22, 3) := dk_160 0 22 (dk_at dksJ13_compareTo_2_1 0 rfl rfl)
theorem dJ13_compareTo_2_25 : decode cJ13_compareTo_2 25 = .ok (.iload 4, 2) := dk_21 4 (dk_at dksJ13_compareTo_2_1 3 rfl rfl)
theorem dJ13_compareTo_2_27 : decode cJ13_compareTo_2 27 = .ok (.ifCond .ne 11, 3) := dk_154 0 11 (dk_at dksJ13_compareTo_2_1 5 rfl rfl)
theorem dJ13_compareTo_2_30 : decode cJ13_compareTo_2 30 = .ok (.aload_n 2, 1) := dk_44 (dk_at dksJ13_compareTo_2_1 8 rfl rfl)
theorem dJ13_compareTo_2_31 : decode cJ13_compareTo_2 31 = .ok (.aload_n 3, 1) := dk_45 (dk_at dksJ13_compareTo_2_1 9 rfl rfl)
theorem dJ13_compareTo_2_32 : decode cJ13_compareTo_2 32 = .ok (.invokestatic 586, 3) := dk_184 2 74 (dk_at dksJ13_compareTo_2_1 10 rfl rfl)
theorem dJ13_compareTo_2_35 : decode cJ13_compareTo_2 35 = .ok (.goto 8, 3) := dk_167 0 8 (dk_at dksJ13_compareTo_2_1 13 rfl rfl)
theorem dJ13_compareTo_2_38 : decode cJ13_compareTo_2 38 = .ok (.aload_n 2, 1) := dk_44 (dk_at dksJ13_compareTo_2_1 16 rfl rfl)
theorem dJ13_compareTo_2_39 : decode cJ13_compareTo_2 39 = .ok (.aload_n 3, 1) := dk_45 (dk_at dksJ13_compareTo_2_1 17 rfl rfl)
theorem dJ13_compareTo_2_40 : decode cJ13_compareTo_2 40 = .ok (.invokestatic 590, 3) := dk_184 2 78 (dk_at dksJ13_compareTo_2_1 18 rfl rfl)
theorem dJ13_compareTo_2_43 : decode cJ13_compareTo_2 43 = .ok (.ireturn, 1) := dk_172 (dk_at dksJ13_compareTo_2_1 21 rfl rfl)
theorem dJ13_compareTo_2_44 : decode cJ13_compareTo_2 44 = .ok (.iload 4, 2) := dk_21 4 (dk_at dksJ13_compareTo_2_1 22 rfl rfl)
theorem dJ13_compareTo_2_46 : decode cJ13_compareTo_2 46 = .ok (.ifCond .ne 11, 3) := dk_154 0 11 (dk_at dksJ13_compareTo_2_2 0 rfl rfl)
theorem dJ13_compareTo_2_49 : decode cJ13_compareTo_2 49 = .ok (.aload_n 2, 1) := dk_44 (dk_at dksJ13_compareTo_2_2 3 rfl rfl)
theorem dJ13_compareTo_2_50 : decode cJ13_compareTo_2 50 = .ok (.aload_n 3, 1) := dk_45 (dk_at dksJ13_compareTo_2_2 4 rfl rfl)
theorem dJ13_compareTo_2_51 : decode cJ13_compareTo_2 51 = .ok (.invokestatic 591, 3) := dk_184 2 79 (dk_at dksJ13_compareTo_2_2 5 rfl rfl)
theorem dJ13_compareTo_2_54 : decode cJ13_compareTo_2 54 = .ok (.goto 8, 3) := dk_167 0 8 (dk_at dksJ13_compareTo_2_2 8 rfl rfl)
theorem dJ13_compareTo_2_57 : decode cJ13_compareTo_2 57 = .ok (.aload_n 2, 1) := dk_44 (dk_at dksJ13_compareTo_2_2 11 rfl rfl)
theorem dJ13_compareTo_2_58 : decode cJ13_compareTo_2 58 = .ok (.aload_n 3, 1) := dk_45 (dk_at dksJ13_compareTo_2_2 12 rfl rfl)
theorem dJ13_compareTo_2_59 : decode cJ13_compareTo_2 59 = .ok (.invokestatic 594, 3) := dk_184 2 82 (dk_at dksJ13_compareTo_2_2 13 rfl rfl)
theorem dJ13_compareTo_2_62 : decode cJ13_compareTo_2 62 = .ok (.ireturn, 1) := dk_172 (dk_at dksJ13_compareTo_2_2 16 rfl rfl)
abbrev cJ13_coder : ByteArray := prog_41_method_152_code
def yJ13_coder : MethodName := ⟨RJ13, "coder", "()B"⟩
def dkwJ13_coder_0 : List UInt8 := [178, 0, 38, 153, 0, 10, 42, 180, 0, 15, 167, 0, 4, 4, 172]
abbrev dktJ13_coder_0 : List UInt8 := dkwJ13_coder_0 ++ []
theorem dksJ13_coder_0 : cJ13_coder.data.toList.drop 0 = dktJ13_coder_0 := by decide +kernel
theorem dJ13_coder_0 : decode cJ13_coder 0 = .ok (.getstatic 38, 3) := dk_178 0 38 (dk_at dksJ13_coder_0 0 rfl rfl)
theorem dJ13_coder_3 : decode cJ13_coder 3 = .ok (.ifCond .eq 10, 3) := dk_153 0 10 (dk_at dksJ13_coder_0 3 rfl rfl)
theorem dJ13_coder_6 : decode cJ13_coder 6 = .ok (.aload_n 0, 1) := dk_42 (dk_at dksJ13_coder_0 6 rfl rfl)
theorem dJ13_coder_7 : decode cJ13_coder 7 = .ok (.getfield 15, 3) := dk_180 0 15 (dk_at dksJ13_coder_0 7 rfl rfl)
theorem dJ13_coder_10 : decode cJ13_coder 10 = .ok (.goto 4, 3) := dk_167 0 4 (dk_at dksJ13_coder_0 10 rfl rfl)
theorem dJ13_coder_13 : decode cJ13_coder 13 = .ok (.iconst 1, 1) := dk_4 (dk_at dksJ13_coder_0 13 rfl rfl)
theorem dJ13_coder_14 : decode cJ13_coder 14 = .ok (.ireturn, 1) := dk_172 (dk_at dksJ13_coder_0 14 rfl rfl)
abbrev cJ13_init : ByteArray := prog_41_method_53_code
def yJ13_init : MethodName := ⟨RJ13, "<init>", "(Ljava/lang/StringBuilder;)V"⟩
def dkwJ13_init_0 : List UInt8 := [42, 43, 1, 183, 1, 233, 177]
abbrev dktJ13_init_0 : List UInt8 := dkwJ13_init_0 ++ []
theorem dksJ13_init_0 : cJ13_init.data.toList.drop 0 = dktJ13_init_0 := by decide +kernel
theorem dJ13_init_0 : decode cJ13_init 0 = .ok (.aload_n 0, 1) := dk_42 (dk_at dksJ13_init_0 0 rfl rfl)
theorem dJ13_init_1 : decode cJ13_init 1 = .ok (.aload_n 1, 1) := dk_43 (dk_at dksJ13_init_0 1 rfl rfl)
theorem dJ13_init_2 : decode cJ13_init 2 = .ok (.aconst_null, 1) := dk_1 (dk_at dksJ13_init_0 2 rfl rfl)
theorem dJ13_init_3 : decode cJ13_init 3 = .ok (.invokespecial 489, 3) := dk_183 1 233 (dk_at dksJ13_init_0 3 rfl rfl)
theorem dJ13_init_6 : decode cJ13_init 6 = .ok (.return_, 1) := dk_177 (dk_at dksJ13_init_0 6 rfl rfl)
abbrev cJ13_init_2 : ByteArray := prog_41_method_150_code
def yJ13_init_2 : MethodName := ⟨RJ13, "<init>", "(Ljava/lang/AbstractStringBuilder;Ljava/lang/Void;)V"⟩
def dkwJ13_init_2_4 : List UInt8 := [181, 0, 9, 177]
abbrev dktJ13_init_2_4 : List UInt8 := dkwJ13_init_2_4 ++ []
def dkwJ13_init_2_3 : List UInt8 := [184, 0, 47, 181, 0, 15, 177, 42, 4, 181, 0, 15, 42, 45, 3, 21, 4, 4, 120, 184, 0, 54]
abbrev dktJ13_init_2_3 : List UInt8 := dkwJ13_init_2_3 ++ dktJ13_init_2_4
def dkwJ13_init_2_2 : List UInt8 := [180, 4, 24, 153, 0, 28, 42, 45, 3, 21, 4, 184, 4, 27, 181, 0, 9, 42, 42, 180, 0, 9, 21, 4]
abbrev dktJ13_init_2_2 : List UInt8 := dkwJ13_init_2_2 ++ dktJ13_init_2_3
def dkwJ13_init_2_1 : List UInt8 := [181, 0, 15, 42, 45, 3, 21, 4, 184, 0, 54, 181, 0, 9, 167, 0, 59, 178, 0, 38, 153, 0, 35, 43]
abbrev dktJ13_init_2_1 : List UInt8 := dkwJ13_init_2_1 ++ dktJ13_init_2_2
def dkwJ13_init_2_0 : List UInt8 := [42, 183, 0, 1, 43, 182, 2, 40, 78, 43, 182, 2, 37, 54, 4, 43, 182, 4, 23, 153, 0, 22, 42, 3]
abbrev dktJ13_init_2_0 : List UInt8 := dkwJ13_init_2_0 ++ dktJ13_init_2_1
theorem dksJ13_init_2_0 : cJ13_init_2.data.toList.drop 0 = dktJ13_init_2_0 := by decide +kernel
theorem dksJ13_init_2_1 : cJ13_init_2.data.toList.drop 24 = dktJ13_init_2_1 := dk_seg dksJ13_init_2_0 24 rfl rfl
theorem dksJ13_init_2_2 : cJ13_init_2.data.toList.drop 48 = dktJ13_init_2_2 := dk_seg dksJ13_init_2_1 24 rfl rfl
theorem dksJ13_init_2_3 : cJ13_init_2.data.toList.drop 72 = dktJ13_init_2_3 := dk_seg dksJ13_init_2_2 24 rfl rfl
theorem dksJ13_init_2_4 : cJ13_init_2.data.toList.drop 94 = dktJ13_init_2_4 := dk_seg dksJ13_init_2_3 22 rfl rfl
theorem dJ13_init_2_0 : decode cJ13_init_2 0 = .ok (.aload_n 0, 1) := dk_42 (dk_at dksJ13_init_2_0 0 rfl rfl)
theorem dJ13_init_2_1 : decode cJ13_init_2 1 = .ok (.invokespecial 1, 3) := dk_183 0 1 (dk_at dksJ13_init_2_0 1 rfl rfl)
theorem dJ13_init_2_4 : decode cJ13_init_2 4 = .ok (.aload_n 1, 1) := dk_43 (dk_at dksJ13_init_2_0 4 rfl rfl)
theorem dJ13_init_2_5 : decode cJ13_init_2 5 = .ok (.invokevirtual 552, 3) := dk_182 2 40 (dk_at dksJ13_init_2_0 5 rfl rfl)
theorem dJ13_init_2_8 : decode cJ13_init_2 8 = .ok (.astore_n 3, 1) := dk_78 (dk_at dksJ13_init_2_0 8 rfl rfl)
theorem dJ13_init_2_9 : decode cJ13_init_2 9 = .ok (.aload_n 1, 1) := dk_43 (dk_at dksJ13_init_2_0 9 rfl rfl)
theorem dJ13_init_2_10 : decode cJ13_init_2 10 = .ok (.invokevirtual 549, 3) := dk_182 2 37 (dk_at dksJ13_init_2_0 10 rfl rfl)
theorem dJ13_init_2_13 : decode cJ13_init_2 13 = .ok (.istore 4, 2) := dk_54 4 (dk_at dksJ13_init_2_0 13 rfl rfl)
theorem dJ13_init_2_15 : decode cJ13_init_2 15 = .ok (.aload_n 1, 1) := dk_43 (dk_at dksJ13_init_2_0 15 rfl rfl)
theorem dJ13_init_2_16 : decode cJ13_init_2 16 = .ok (.invokevirtual 1047, 3) := dk_182 4 23 (dk_at dksJ13_init_2_0 16 rfl rfl)
theorem dJ13_init_2_19 : decode cJ13_init_2 19 = .ok (.ifCond .eq 22, 3) := dk_153 0 22 (dk_at dksJ13_init_2_0 19 rfl rfl)
theorem dJ13_init_2_22 : decode cJ13_init_2 22 = .ok (.aload_n 0, 1) := dk_42 (dk_at dksJ13_init_2_0 22 rfl rfl)
theorem dJ13_init_2_23 : decode cJ13_init_2 23 = .ok (.iconst 0, 1) := dk_3 (dk_at dksJ13_init_2_0 23 rfl rfl)
theorem dJ13_init_2_24 : decode cJ13_init_2 24 = .ok (.putfield 15, 3) := dk_181 0 15 (dk_at dksJ13_init_2_1 0 rfl rfl)
theorem dJ13_init_2_27 : decode cJ13_init_2 27 = .ok (.aload_n 0, 1) := dk_42 (dk_at dksJ13_init_2_1 3 rfl rfl)
theorem dJ13_init_2_28 : decode cJ13_init_2 28 = .ok (.aload_n 3, 1) := dk_45 (dk_at dksJ13_init_2_1 4 rfl rfl)
theorem dJ13_init_2_29 : decode cJ13_init_2 29 = .ok (.iconst 0, 1) := dk_3 (dk_at dksJ13_init_2_1 5 rfl rfl)
theorem dJ13_init_2_30 : decode cJ13_init_2 30 = .ok (.iload 4, 2) := dk_21 4 (dk_at dksJ13_init_2_1 6 rfl rfl)
theorem dJ13_init_2_32 : decode cJ13_init_2 32 = .ok (.invokestatic 54, 3) := dk_184 0 54 (dk_at dksJ13_init_2_1 8 rfl rfl)
theorem dJ13_init_2_35 : decode cJ13_init_2 35 = .ok (.putfield 9, 3) := dk_181 0 9 (dk_at dksJ13_init_2_1 11 rfl rfl)
theorem dJ13_init_2_38 : decode cJ13_init_2 38 = .ok (.goto 59, 3) := dk_167 0 59 (dk_at dksJ13_init_2_1 14 rfl rfl)
theorem dJ13_init_2_41 : decode cJ13_init_2 41 = .ok (.getstatic 38, 3) := dk_178 0 38 (dk_at dksJ13_init_2_1 17 rfl rfl)
theorem dJ13_init_2_44 : decode cJ13_init_2 44 = .ok (.ifCond .eq 35, 3) := dk_153 0 35 (dk_at dksJ13_init_2_1 20 rfl rfl)
theorem dJ13_init_2_47 : decode cJ13_init_2 47 = .ok (.aload_n 1, 1) := dk_43 (dk_at dksJ13_init_2_1 23 rfl rfl)
theorem dJ13_init_2_48 : decode cJ13_init_2 48 = .ok (.getfield 1048, 3) := dk_180 4 24 (dk_at dksJ13_init_2_2 0 rfl rfl)
theorem dJ13_init_2_51 : decode cJ13_init_2 51 = .ok (.ifCond .eq 28, 3) := dk_153 0 28 (dk_at dksJ13_init_2_2 3 rfl rfl)
theorem dJ13_init_2_54 : decode cJ13_init_2 54 = .ok (.aload_n 0, 1) := dk_42 (dk_at dksJ13_init_2_2 6 rfl rfl)
theorem dJ13_init_2_55 : decode cJ13_init_2 55 = .ok (.aload_n 3, 1) := dk_45 (dk_at dksJ13_init_2_2 7 rfl rfl)
theorem dJ13_init_2_56 : decode cJ13_init_2 56 = .ok (.iconst 0, 1) := dk_3 (dk_at dksJ13_init_2_2 8 rfl rfl)
theorem dJ13_init_2_57 : decode cJ13_init_2 57 = .ok (.iload 4, 2) := dk_21 4 (dk_at dksJ13_init_2_2 9 rfl rfl)
theorem dJ13_init_2_59 : decode cJ13_init_2 59 = .ok (.invokestatic 1051, 3) := dk_184 4 27 (dk_at dksJ13_init_2_2 11 rfl rfl)
theorem dJ13_init_2_62 : decode cJ13_init_2 62 = .ok (.putfield 9, 3) := dk_181 0 9 (dk_at dksJ13_init_2_2 14 rfl rfl)
theorem dJ13_init_2_65 : decode cJ13_init_2 65 = .ok (.aload_n 0, 1) := dk_42 (dk_at dksJ13_init_2_2 17 rfl rfl)
theorem dJ13_init_2_66 : decode cJ13_init_2 66 = .ok (.aload_n 0, 1) := dk_42 (dk_at dksJ13_init_2_2 18 rfl rfl)
theorem dJ13_init_2_67 : decode cJ13_init_2 67 = .ok (.getfield 9, 3) := dk_180 0 9 (dk_at dksJ13_init_2_2 19 rfl rfl)
theorem dJ13_init_2_70 : decode cJ13_init_2 70 = .ok (.iload 4, 2) := dk_21 4 (dk_at dksJ13_init_2_2 22 rfl rfl)
theorem dJ13_init_2_72 : decode cJ13_init_2 72 = .ok (.invokestatic 47, 3) := dk_184 0 47 (dk_at dksJ13_init_2_3 0 rfl rfl)
theorem dJ13_init_2_75 : decode cJ13_init_2 75 = .ok (.putfield 15, 3) := dk_181 0 15 (dk_at dksJ13_init_2_3 3 rfl rfl)
theorem dJ13_init_2_78 : decode cJ13_init_2 78 = .ok (.return_, 1) := dk_177 (dk_at dksJ13_init_2_3 6 rfl rfl)
theorem dJ13_init_2_79 : decode cJ13_init_2 79 = .ok (.aload_n 0, 1) := dk_42 (dk_at dksJ13_init_2_3 7 rfl rfl)
theorem dJ13_init_2_80 : decode cJ13_init_2 80 = .ok (.iconst 1, 1) := dk_4 (dk_at dksJ13_init_2_3 8 rfl rfl)
theorem dJ13_init_2_81 : decode cJ13_init_2 81 = .ok (.putfield 15, 3) := dk_181 0 15 (dk_at dksJ13_init_2_3 9 rfl rfl)
theorem dJ13_init_2_84 : decode cJ13_init_2 84 = .ok (.aload_n 0, 1) := dk_42 (dk_at dksJ13_init_2_3 12 rfl rfl)
theorem dJ13_init_2_85 : decode cJ13_init_2 85 = .ok (.aload_n 3, 1) := dk_45 (dk_at dksJ13_init_2_3 13 rfl rfl)
theorem dJ13_init_2_86 : decode cJ13_init_2 86 = .ok (.iconst 0, 1) := dk_3 (dk_at dksJ13_init_2_3 14 rfl rfl)
theorem dJ13_init_2_87 : decode cJ13_init_2 87 = .ok (.iload 4, 2) := dk_21 4 (dk_at dksJ13_init_2_3 15 rfl rfl)
theorem dJ13_init_2_89 : decode cJ13_init_2 89 = .ok (.iconst 1, 1) := dk_4 (dk_at dksJ13_init_2_3 17 rfl rfl)
theorem dJ13_init_2_90 : decode cJ13_init_2 90 = .ok (.ishl, 1) := dk_120 (dk_at dksJ13_init_2_3 18 rfl rfl)
theorem dJ13_init_2_91 : decode cJ13_init_2 91 = .ok (.invokestatic 54, 3) := dk_184 0 54 (dk_at dksJ13_init_2_3 19 rfl rfl)
theorem dJ13_init_2_94 : decode cJ13_init_2 94 = .ok (.putfield 9, 3) := dk_181 0 9 (dk_at dksJ13_init_2_4 0 rfl rfl)
theorem dJ13_init_2_97 : decode cJ13_init_2 97 = .ok (.return_, 1) := dk_177 (dk_at dksJ13_init_2_4 3 rfl rfl)
abbrev cJ13_indexOf : ByteArray := prog_41_method_79_code
def yJ13_indexOf : MethodName := ⟨RJ13, "indexOf", "(I)I"⟩
def dkwJ13_indexOf_0 : List UInt8 := [42, 27, 3, 182, 2, 121, 172]
abbrev dktJ13_indexOf_0 : List UInt8 := dkwJ13_indexOf_0 ++ []
theorem dksJ13_indexOf_0 : cJ13_indexOf.data.toList.drop 0 = dktJ13_indexOf_0 := by decide +kernel
theorem dJ13_indexOf_0 : decode cJ13_indexOf 0 = .ok (.aload_n 0, 1) := dk_42 (dk_at dksJ13_indexOf_0 0 rfl rfl)
theorem dJ13_indexOf_1 : decode cJ13_indexOf 1 = .ok (.iload_n 1, 1) := dk_27 (dk_at dksJ13_indexOf_0 1 rfl rfl)
theorem dJ13_indexOf_2 : decode cJ13_indexOf 2 = .ok (.iconst 0, 1) := dk_3 (dk_at dksJ13_indexOf_0 2 rfl rfl)
theorem dJ13_indexOf_3 : decode cJ13_indexOf 3 = .ok (.invokevirtual 633, 3) := dk_182 2 121 (dk_at dksJ13_indexOf_0 3 rfl rfl)
theorem dJ13_indexOf_6 : decode cJ13_indexOf 6 = .ok (.ireturn, 1) := dk_172 (dk_at dksJ13_indexOf_0 6 rfl rfl)
abbrev cJ13_indexOf_2 : ByteArray := prog_41_method_80_code
def yJ13_indexOf_2 : MethodName := ⟨RJ13, "indexOf", "(II)I"⟩
def dkwJ13_indexOf_2_1 : List UInt8 := [180, 0, 9, 27, 28, 42, 182, 1, 249, 184, 2, 128, 172]
abbrev dktJ13_indexOf_2_1 : List UInt8 := dkwJ13_indexOf_2_1 ++ []
def dkwJ13_indexOf_2_0 : List UInt8 := [42, 182, 1, 236, 153, 0, 19, 42, 180, 0, 9, 27, 28, 42, 182, 1, 249, 184, 2, 125, 167, 0, 16, 42]
abbrev dktJ13_indexOf_2_0 : List UInt8 := dkwJ13_indexOf_2_0 ++ dktJ13_indexOf_2_1
theorem dksJ13_indexOf_2_0 : cJ13_indexOf_2.data.toList.drop 0 = dktJ13_indexOf_2_0 := by decide +kernel
theorem dksJ13_indexOf_2_1 : cJ13_indexOf_2.data.toList.drop 24 = dktJ13_indexOf_2_1 := dk_seg dksJ13_indexOf_2_0 24 rfl rfl
theorem dJ13_indexOf_2_0 : decode cJ13_indexOf_2 0 = .ok (.aload_n 0, 1) := dk_42 (dk_at dksJ13_indexOf_2_0 0 rfl rfl)
theorem dJ13_indexOf_2_1 : decode cJ13_indexOf_2 1 = .ok (.invokevirtual 492, 3) := dk_182 1 236 (dk_at dksJ13_indexOf_2_0 1 rfl rfl)
theorem dJ13_indexOf_2_4 : decode cJ13_indexOf_2 4 = .ok (.ifCond .eq 19, 3) := dk_153 0 19 (dk_at dksJ13_indexOf_2_0 4 rfl rfl)
theorem dJ13_indexOf_2_7 : decode cJ13_indexOf_2 7 = .ok (.aload_n 0, 1) := dk_42 (dk_at dksJ13_indexOf_2_0 7 rfl rfl)
theorem dJ13_indexOf_2_8 : decode cJ13_indexOf_2 8 = .ok (.getfield 9, 3) := dk_180 0 9 (dk_at dksJ13_indexOf_2_0 8 rfl rfl)
theorem dJ13_indexOf_2_11 : decode cJ13_indexOf_2 11 = .ok (.iload_n 1, 1) := dk_27 (dk_at dksJ13_indexOf_2_0 11 rfl rfl)
theorem dJ13_indexOf_2_12 : decode cJ13_indexOf_2 12 = .ok (.iload_n 2, 1) := dk_28 (dk_at dksJ13_indexOf_2_0 12 rfl rfl)
theorem dJ13_indexOf_2_13 : decode cJ13_indexOf_2 13 = .ok (.aload_n 0, 1) := dk_42 (dk_at dksJ13_indexOf_2_0 13 rfl rfl)
theorem dJ13_indexOf_2_14 : decode cJ13_indexOf_2 14 = .ok (.invokevirtual 505, 3) := dk_182 1 249 (dk_at dksJ13_indexOf_2_0 14 rfl rfl)
theorem dJ13_indexOf_2_17 : decode cJ13_indexOf_2 17 = .ok (.invokestatic 637, 3) := dk_184 2 125 (dk_at dksJ13_indexOf_2_0 17 rfl rfl)
theorem dJ13_indexOf_2_20 : decode cJ13_indexOf_2 20 = .ok (.goto 16, 3) := dk_167 0 16 (dk_at dksJ13_indexOf_2_0 20 rfl rfl)
theorem dJ13_indexOf_2_23 : decode cJ13_indexOf_2 23 = .ok (.aload_n 0, 1) := dk_42 (dk_at dksJ13_indexOf_2_0 23 rfl rfl)
theorem dJ13_indexOf_2_24 : decode cJ13_indexOf_2 24 = .ok (.getfield 9, 3) := dk_180 0 9 (dk_at dksJ13_indexOf_2_1 0 rfl rfl)
theorem dJ13_indexOf_2_27 : decode cJ13_indexOf_2 27 = .ok (.iload_n 1, 1) := dk_27 (dk_at dksJ13_indexOf_2_1 3 rfl rfl)
theorem dJ13_indexOf_2_28 : decode cJ13_indexOf_2 28 = .ok (.iload_n 2, 1) := dk_28 (dk_at dksJ13_indexOf_2_1 4 rfl rfl)
theorem dJ13_indexOf_2_29 : decode cJ13_indexOf_2 29 = .ok (.aload_n 0, 1) := dk_42 (dk_at dksJ13_indexOf_2_1 5 rfl rfl)
theorem dJ13_indexOf_2_30 : decode cJ13_indexOf_2 30 = .ok (.invokevirtual 505, 3) := dk_182 1 249 (dk_at dksJ13_indexOf_2_1 6 rfl rfl)
theorem dJ13_indexOf_2_33 : decode cJ13_indexOf_2 33 = .ok (.invokestatic 640, 3) := dk_184 2 128 (dk_at dksJ13_indexOf_2_1 9 rfl rfl)
theorem dJ13_indexOf_2_36 : decode cJ13_indexOf_2 36 = .ok (.ireturn, 1) := dk_172 (dk_at dksJ13_indexOf_2_1 12 rfl rfl)
abbrev cJ13_length : ByteArray := prog_41_method_54_code
def yJ13_length : MethodName := ⟨RJ13, "length", "()I"⟩
def dkwJ13_length_0 : List UInt8 := [42, 180, 0, 9, 190, 42, 182, 1, 79, 122, 172]
abbrev dktJ13_length_0 : List UInt8 := dkwJ13_length_0 ++ []
theorem dksJ13_length_0 : cJ13_length.data.toList.drop 0 = dktJ13_length_0 := by decide +kernel
theorem dJ13_length_0 : decode cJ13_length 0 = .ok (.aload_n 0, 1) := dk_42 (dk_at dksJ13_length_0 0 rfl rfl)
theorem dJ13_length_1 : decode cJ13_length 1 = .ok (.getfield 9, 3) := dk_180 0 9 (dk_at dksJ13_length_0 1 rfl rfl)
theorem dJ13_length_4 : decode cJ13_length 4 = .ok (.arraylength, 1) := dk_190 (dk_at dksJ13_length_0 4 rfl rfl)
theorem dJ13_length_5 : decode cJ13_length 5 = .ok (.aload_n 0, 1) := dk_42 (dk_at dksJ13_length_0 5 rfl rfl)
theorem dJ13_length_6 : decode cJ13_length 6 = .ok (.invokevirtual 335, 3) := dk_182 1 79 (dk_at dksJ13_length_0 6 rfl rfl)
theorem dJ13_length_9 : decode cJ13_length 9 = .ok (.ishr, 1) := dk_122 (dk_at dksJ13_length_0 9 rfl rfl)
theorem dJ13_length_10 : decode cJ13_length 10 = .ok (.ireturn, 1) := dk_172 (dk_at dksJ13_length_0 10 rfl rfl)
abbrev cJ13_getBytes : ByteArray := prog_41_method_147_code
def yJ13_getBytes : MethodName := ⟨RJ13, "getBytes", "([BIB)V"⟩
def dkwJ13_getBytes_1 : List UInt8 := [184, 0, 212, 167, 0, 18, 42, 180, 0, 9, 3, 43, 28, 42, 180, 0, 9, 190, 184, 0, 106, 177]
abbrev dktJ13_getBytes_1 : List UInt8 := dkwJ13_getBytes_1 ++ []
def dkwJ13_getBytes_0 : List UInt8 := [42, 182, 1, 79, 29, 160, 0, 23, 42, 180, 0, 9, 3, 43, 28, 29, 120, 42, 180, 0, 9, 190]
abbrev dktJ13_getBytes_0 : List UInt8 := dkwJ13_getBytes_0 ++ dktJ13_getBytes_1
theorem dksJ13_getBytes_0 : cJ13_getBytes.data.toList.drop 0 = dktJ13_getBytes_0 := by decide +kernel
theorem dksJ13_getBytes_1 : cJ13_getBytes.data.toList.drop 22 = dktJ13_getBytes_1 := dk_seg dksJ13_getBytes_0 22 rfl rfl
theorem dJ13_getBytes_0 : decode cJ13_getBytes 0 = .ok (.aload_n 0, 1) := dk_42 (dk_at dksJ13_getBytes_0 0 rfl rfl)
theorem dJ13_getBytes_1 : decode cJ13_getBytes 1 = .ok (.invokevirtual 335, 3) := dk_182 1 79 (dk_at dksJ13_getBytes_0 1 rfl rfl)
theorem dJ13_getBytes_4 : decode cJ13_getBytes 4 = .ok (.iload_n 3, 1) := dk_29 (dk_at dksJ13_getBytes_0 4 rfl rfl)
theorem dJ13_getBytes_5 : decode cJ13_getBytes 5 = .ok (.if_icmp .ne 23, 3) := dk_160 0 23 (dk_at dksJ13_getBytes_0 5 rfl rfl)
theorem dJ13_getBytes_8 : decode cJ13_getBytes 8 = .ok (.aload_n 0, 1) := dk_42 (dk_at dksJ13_getBytes_0 8 rfl rfl)
theorem dJ13_getBytes_9 : decode cJ13_getBytes 9 = .ok (.getfield 9, 3) := dk_180 0 9 (dk_at dksJ13_getBytes_0 9 rfl rfl)
theorem dJ13_getBytes_12 : decode cJ13_getBytes 12 = .ok (.iconst 0, 1) := dk_3 (dk_at dksJ13_getBytes_0 12 rfl rfl)
theorem dJ13_getBytes_13 : decode cJ13_getBytes 13 = .ok (.aload_n 1, 1) := dk_43 (dk_at dksJ13_getBytes_0 13 rfl rfl)
theorem dJ13_getBytes_14 : decode cJ13_getBytes 14 = .ok (.iload_n 2, 1) := dk_28 (dk_at dksJ13_getBytes_0 14 rfl rfl)
theorem dJ13_getBytes_15 : decode cJ13_getBytes 15 = .ok (.iload_n 3, 1) := dk_29 (dk_at dksJ13_getBytes_0 15 rfl rfl)
theorem dJ13_getBytes_16 : decode cJ13_getBytes 16 = .ok (.ishl, 1) := dk_120 (dk_at dksJ13_getBytes_0 16 rfl rfl)
theorem dJ13_getBytes_17 : decode cJ13_getBytes 17 = .ok (.aload_n 0, 1) := dk_42 (dk_at dksJ13_getBytes_0 17 rfl rfl)
theorem dJ13_getBytes_18 : decode cJ13_getBytes 18 = .ok (.getfield 9, 3) := dk_180 0 9 (dk_at dksJ13_getBytes_0 18 rfl rfl)
theorem dJ13_getBytes_21 : decode cJ13_getBytes 21 = .ok (.arraylength, 1) := dk_190 (dk_at dksJ13_getBytes_0 21 rfl rfl)
theorem dJ13_getBytes_22 : decode cJ13_getBytes 22 = .ok (.invokestatic 212, 3) := dk_184 0 212 (dk_at dksJ13_getBytes_1 0 rfl rfl)
theorem dJ13_getBytes_25 : decode cJ13_getBytes 25 = .ok (.goto 18, 3) := dk_167 0 18 (dk_at dksJ13_getBytes_1 3 rfl rfl)
theorem dJ13_getBytes_28 : decode cJ13_getBytes 28 = .ok (.aload_n 0, 1) := dk_42 (dk_at dksJ13_getBytes_1 6 rfl rfl)
theorem dJ13_getBytes_29 : decode cJ13_getBytes 29 = .ok (.getfield 9, 3) := dk_180 0 9 (dk_at dksJ13_getBytes_1 7 rfl rfl)
theorem dJ13_getBytes_32 : decode cJ13_getBytes 32 = .ok (.iconst 0, 1) := dk_3 (dk_at dksJ13_getBytes_1 10 rfl rfl)
theorem dJ13_getBytes_33 : decode cJ13_getBytes 33 = .ok (.aload_n 1, 1) := dk_43 (dk_at dksJ13_getBytes_1 11 rfl rfl)
theorem dJ13_getBytes_34 : decode cJ13_getBytes 34 = .ok (.iload_n 2, 1) := dk_28 (dk_at dksJ13_getBytes_1 12 rfl rfl)
theorem dJ13_getBytes_35 : decode cJ13_getBytes 35 = .ok (.aload_n 0, 1) := dk_42 (dk_at dksJ13_getBytes_1 13 rfl rfl)
theorem dJ13_getBytes_36 : decode cJ13_getBytes 36 = .ok (.getfield 9, 3) := dk_180 0 9 (dk_at dksJ13_getBytes_1 14 rfl rfl)
theorem dJ13_getBytes_39 : decode cJ13_getBytes 39 = .ok (.arraylength, 1) := dk_190 (dk_at dksJ13_getBytes_1 17 rfl rfl)
theorem dJ13_getBytes_40 : decode cJ13_getBytes 40 = .ok (.invokestatic 106, 3) := dk_184 0 106 (dk_at dksJ13_getBytes_1 18 rfl rfl)
theorem dJ13_getBytes_43 : decode cJ13_getBytes 43 = .ok (.return_, 1) := dk_177 (dk_at dksJ13_getBytes_1 21 rfl rfl)
abbrev cJ13_contains : ByteArray := prog_41_method_97_code
def yJ13_contains : MethodName := ⟨RJ13, "contains", "(Ljava/lang/CharSequence;)Z"⟩
def dkwJ13_contains_0 : List UInt8 := [42, 43, 185, 2, 198, 1, 0, 182, 2, 199, 155, 0, 7, 4, 167, 0, 4, 3, 172]
abbrev dktJ13_contains_0 : List UInt8 := dkwJ13_contains_0 ++ []
theorem dksJ13_contains_0 : cJ13_contains.data.toList.drop 0 = dktJ13_contains_0 := by decide +kernel
theorem dJ13_contains_0 : decode cJ13_contains 0 = .ok (.aload_n 0, 1) := dk_42 (dk_at dksJ13_contains_0 0 rfl rfl)
theorem dJ13_contains_1 : decode cJ13_contains 1 = .ok (.aload_n 1, 1) := dk_43 (dk_at dksJ13_contains_0 1 rfl rfl)
theorem dJ13_contains_2 : decode cJ13_contains 2 = .ok (.invokeinterface 710 1, 5) := by decide +kernel
theorem dJ13_contains_7 : decode cJ13_contains 7 = .ok (.invokevirtual 711, 3) := dk_182 2 199 (dk_at dksJ13_contains_0 7 rfl rfl)
theorem dJ13_contains_10 : decode cJ13_contains 10 = .ok (.ifCond .lt 7, 3) := dk_155 0 7 (dk_at dksJ13_contains_0 10 rfl rfl)
theorem dJ13_contains_13 : decode cJ13_contains 13 = .ok (.iconst 1, 1) := dk_4 (dk_at dksJ13_contains_0 13 rfl rfl)
theorem dJ13_contains_14 : decode cJ13_contains 14 = .ok (.goto 4, 3) := dk_167 0 4 (dk_at dksJ13_contains_0 14 rfl rfl)
theorem dJ13_contains_17 : decode cJ13_contains 17 = .ok (.iconst 0, 1) := dk_3 (dk_at dksJ13_contains_0 17 rfl rfl)
theorem dJ13_contains_18 : decode cJ13_contains 18 = .ok (.ireturn, 1) := dk_172 (dk_at dksJ13_contains_0 18 rfl rfl)
abbrev cJ13_toString : ByteArray := prog_41_method_126_code
def yJ13_toString : MethodName := ⟨RJ13, "toString", "()Ljava/lang/String;"⟩
theorem dJ13_toString_0 : decode cJ13_toString 0 = .ok (.aload_n 0, 1) := by decide +kernel
theorem dJ13_toString_1 : decode cJ13_toString 1 = .ok (.areturn, 1) := by decide +kernel
abbrev cJ13_indexOf_3 : ByteArray := prog_41_method_84_code
def yJ13_indexOf_3 : MethodName := ⟨RJ13, "indexOf", "(Ljava/lang/String;)I"⟩
def dkwJ13_indexOf_3_2 : List UInt8 := [154, 0, 5, 2, 172, 42, 180, 0, 9, 43, 180, 0, 9, 184, 2, 138, 172]
abbrev dktJ13_indexOf_3_2 : List UInt8 := dkwJ13_indexOf_3_2 ++ []
def dkwJ13_indexOf_3_1 : List UInt8 := [43, 180, 0, 9, 184, 2, 135, 167, 0, 14, 42, 180, 0, 9, 43, 180, 0, 9, 184, 2, 137, 172, 28]
abbrev dktJ13_indexOf_3_1 : List UInt8 := dkwJ13_indexOf_3_1 ++ dktJ13_indexOf_3_2
def dkwJ13_indexOf_3_0 : List UInt8 := [42, 182, 1, 79, 61, 28, 43, 182, 1, 79, 160, 0, 36, 42, 182, 1, 236, 153, 0, 17, 42, 180, 0, 9]
abbrev dktJ13_indexOf_3_0 : List UInt8 := dkwJ13_indexOf_3_0 ++ dktJ13_indexOf_3_1
theorem dksJ13_indexOf_3_0 : cJ13_indexOf_3.data.toList.drop 0 = dktJ13_indexOf_3_0 := by decide +kernel
theorem dksJ13_indexOf_3_1 : cJ13_indexOf_3.data.toList.drop 24 = dktJ13_indexOf_3_1 := dk_seg dksJ13_indexOf_3_0 24 rfl rfl
theorem dksJ13_indexOf_3_2 : cJ13_indexOf_3.data.toList.drop 47 = dktJ13_indexOf_3_2 := dk_seg dksJ13_indexOf_3_1 23 rfl rfl
theorem dJ13_indexOf_3_0 : decode cJ13_indexOf_3 0 = .ok (.aload_n 0, 1) := dk_42 (dk_at dksJ13_indexOf_3_0 0 rfl rfl)
theorem dJ13_indexOf_3_1 : decode cJ13_indexOf_3 1 = .ok (.invokevirtual 335, 3) := dk_182 1 79 (dk_at dksJ13_indexOf_3_0 1 rfl rfl)
theorem dJ13_indexOf_3_4 : decode cJ13_indexOf_3 4 = .ok (.istore_n 2, 1) := dk_61 (dk_at dksJ13_indexOf_3_0 4 rfl rfl)
theorem dJ13_indexOf_3_5 : decode cJ13_indexOf_3 5 = .ok (.iload_n 2, 1) := dk_28 (dk_at dksJ13_indexOf_3_0 5 rfl rfl)
theorem dJ13_indexOf_3_6 : decode cJ13_indexOf_3 6 = .ok (.aload_n 1, 1) := dk_43 (dk_at dksJ13_indexOf_3_0 6 rfl rfl)
theorem dJ13_indexOf_3_7 : decode cJ13_indexOf_3 7 = .ok (.invokevirtual 335, 3) := dk_182 1 79 (dk_at dksJ13_indexOf_3_0 7 rfl rfl)
theorem dJ13_indexOf_3_10 : decode cJ13_indexOf_3 10 = .ok (.if_icmp .ne 36, 3) := dk_160 0 36 (dk_at dksJ13_indexOf_3_0 10 rfl rfl)
theorem dJ13_indexOf_3_13 : decode cJ13_indexOf_3 13 = .ok (.aload_n 0, 1) := dk_42 (dk_at dksJ13_indexOf_3_0 13 rfl rfl)
theorem dJ13_indexOf_3_14 : decode cJ13_indexOf_3 14 = .ok (.invokevirtual 492, 3) := dk_182 1 236 (dk_at dksJ13_indexOf_3_0 14 rfl rfl)
theorem dJ13_indexOf_3_17 : decode cJ13_indexOf_3 17 = .ok (.ifCond .eq 17, 3) := dk_153 0 17 (dk_at dksJ13_indexOf_3_0 17 rfl rfl)
theorem dJ13_indexOf_3_20 : decode cJ13_indexOf_3 20 = .ok (.aload_n 0, 1) := dk_42 (dk_at dksJ13_indexOf_3_0 20 rfl rfl)
theorem dJ13_indexOf_3_21 : decode cJ13_indexOf_3 21 = .ok (.getfield 9, 3) := dk_180 0 9 (dk_at dksJ13_indexOf_3_0 21 rfl rfl)
theorem dJ13_indexOf_3_24 : decode cJ13_indexOf_3 24 = .ok (.aload_n 1, 1) := dk_43 (dk_at dksJ13_indexOf_3_1 0 rfl rfl)
theorem dJ13_indexOf_3_25 : decode cJ13_indexOf_3 25 = .ok (.getfield 9, 3) := dk_180 0 9 (dk_at dksJ13_indexOf_3_1 1 rfl rfl)
theorem dJ13_indexOf_3_28 : decode cJ13_indexOf_3 28 = .ok (.invokestatic 647, 3) := dk_184 2 135 (dk_at dksJ13_indexOf_3_1 4 rfl rfl)
theorem dJ13_indexOf_3_31 : decode cJ13_indexOf_3 31 = .ok (.goto 14, 3) := dk_167 0 14 (dk_at dksJ13_indexOf_3_1 7 rfl rfl)
theorem dJ13_indexOf_3_34 : decode cJ13_indexOf_3 34 = .ok (.aload_n 0, 1) := dk_42 (dk_at dksJ13_indexOf_3_1 10 rfl rfl)
theorem dJ13_indexOf_3_35 : decode cJ13_indexOf_3 35 = .ok (.getfield 9, 3) := dk_180 0 9 (dk_at dksJ13_indexOf_3_1 11 rfl rfl)
theorem dJ13_indexOf_3_38 : decode cJ13_indexOf_3 38 = .ok (.aload_n 1, 1) := dk_43 (dk_at dksJ13_indexOf_3_1 14 rfl rfl)
theorem dJ13_indexOf_3_39 : decode cJ13_indexOf_3 39 = .ok (.getfield 9, 3) := dk_180 0 9 (dk_at dksJ13_indexOf_3_1 15 rfl rfl)
theorem dJ13_indexOf_3_42 : decode cJ13_indexOf_3 42 = .ok (.invokestatic 649, 3) := dk_184 2 137 (dk_at dksJ13_indexOf_3_1 18 rfl rfl)
theorem dJ13_indexOf_3_45 : decode cJ13_indexOf_3 45 = .ok (.ireturn, 1) := dk_172 (dk_at dksJ13_indexOf_3_1 21 rfl rfl)
theorem dJ13_indexOf_3_46 : decode cJ13_indexOf_3 46 = .ok (.iload_n 2, 1) := dk_28 (dk_at dksJ13_indexOf_3_1 22 rfl rfl)
theorem dJ13_indexOf_3_47 : decode cJ13_indexOf_3 47 = .ok (.ifCond .ne 5, 3) := dk_154 0 5 (dk_at dksJ13_indexOf_3_2 0 rfl rfl)
theorem dJ13_indexOf_3_50 : decode cJ13_indexOf_3 50 = .ok (.iconst (-1), 1) := dk_2 (dk_at dksJ13_indexOf_3_2 3 rfl rfl)
theorem dJ13_indexOf_3_51 : decode cJ13_indexOf_3 51 = .ok (.ireturn, 1) := dk_172 (dk_at dksJ13_indexOf_3_2 4 rfl rfl)
theorem dJ13_indexOf_3_52 : decode cJ13_indexOf_3 52 = .ok (.aload_n 0, 1) := dk_42 (dk_at dksJ13_indexOf_3_2 5 rfl rfl)
theorem dJ13_indexOf_3_53 : decode cJ13_indexOf_3 53 = .ok (.getfield 9, 3) := dk_180 0 9 (dk_at dksJ13_indexOf_3_2 6 rfl rfl)
theorem dJ13_indexOf_3_56 : decode cJ13_indexOf_3 56 = .ok (.aload_n 1, 1) := dk_43 (dk_at dksJ13_indexOf_3_2 9 rfl rfl)
theorem dJ13_indexOf_3_57 : decode cJ13_indexOf_3 57 = .ok (.getfield 9, 3) := dk_180 0 9 (dk_at dksJ13_indexOf_3_2 10 rfl rfl)
theorem dJ13_indexOf_3_60 : decode cJ13_indexOf_3 60 = .ok (.invokestatic 650, 3) := dk_184 2 138 (dk_at dksJ13_indexOf_3_2 13 rfl rfl)
theorem dJ13_indexOf_3_63 : decode cJ13_indexOf_3 63 = .ok (.ireturn, 1) := dk_172 (dk_at dksJ13_indexOf_3_2 16 rfl rfl)
theorem q112 : (Jvm.Cond.initialized "java/lang/String") ∈ lw_all := lw_g (lw_at lw_m1 20 rfl) rfl
theorem q443 : (Jvm.Cond.selects "java/lang/String" ({ cls := "java/lang/Object", name := "getClass", desc := "()Ljava/lang/Class;" } : Jvm.MethodName) ({ cls := "java/lang/Object", name := "getClass", desc := "()Ljava/lang/Class;" } : Jvm.MethodName)) ∈ lw_all := lw_g (lw_at lw_m2 111 rfl) rfl
theorem q507 : (Jvm.Cond.selects "java/lang/String" ({ cls := "java/lang/Object", name := "hashCode", desc := "()I" } : Jvm.MethodName) ({ cls := "java/lang/String", name := "hashCode", desc := "()I" } : Jvm.MethodName)) ∈ lw_all := lw_g (lw_at lw_m2 175 rfl) rfl
theorem q508 : (Jvm.Cond.instanceMethod ({ cls := "java/lang/String", name := "hashCode", desc := "()I" } : Jvm.MethodName)) ∈ lw_all := lw_g (lw_at lw_m2 176 rfl) rfl
theorem q509 : (Jvm.Cond.code ({ cls := "java/lang/String", name := "hashCode", desc := "()I" } : Jvm.MethodName) prog_41_method_78_code (2 : Nat) (Option.some Jvm.ClassFile.FieldType.int)) ∈ lw_all := lw_g (lw_at lw_m2 177 rfl) rfl
theorem q510 : (Jvm.Cond.methodLink "java/lang/String" (492 : Nat) ({ cls := "java/lang/String", name := "isLatin1", desc := "()Z" } : Jvm.MethodName)) ∈ lw_all := lw_g (lw_at lw_m2 178 rfl) rfl
theorem q511 : (Jvm.Cond.instanceMethod ({ cls := "java/lang/String", name := "isLatin1", desc := "()Z" } : Jvm.MethodName)) ∈ lw_all := lw_g (lw_at lw_m2 179 rfl) rfl
theorem q512 : (Jvm.Cond.selects "java/lang/String" ({ cls := "java/lang/String", name := "isLatin1", desc := "()Z" } : Jvm.MethodName) ({ cls := "java/lang/String", name := "isLatin1", desc := "()Z" } : Jvm.MethodName)) ∈ lw_all := lw_g (lw_at lw_m2 180 rfl) rfl
theorem q513 : (Jvm.Cond.code ({ cls := "java/lang/String", name := "isLatin1", desc := "()Z" } : Jvm.MethodName) prog_41_method_154_code (1 : Nat) (Option.some Jvm.ClassFile.FieldType.boolean)) ∈ lw_all := lw_g (lw_at lw_m2 181 rfl) rfl
theorem q514 : (Jvm.Cond.fieldLink "java/lang/String" (38 : Nat) "java/lang/String" "COMPACT_STRINGS" "Z") ∈ lw_all := lw_g (lw_at lw_m2 182 rfl) rfl
theorem q515 : (Jvm.Cond.laysStatic "java/lang/String" "COMPACT_STRINGS" "Z") ∈ lw_tbl := lw_at lw_m2 183 rfl
theorem q516 : (Jvm.Cond.methodLink "java/lang/String" (628 : Nat) ({ cls := "java/lang/StringLatin1", name := "hashCode", desc := "([B)I" } : Jvm.MethodName)) ∈ lw_all := lw_g (lw_at lw_m2 184 rfl) rfl
theorem q568 : (Jvm.Cond.methodLink "java/lang/String" (632 : Nat) ({ cls := "java/lang/StringUTF16", name := "hashCode", desc := "([B)I" } : Jvm.MethodName)) ∈ lw_all := lw_g (lw_at lw_m2 236 rfl) rfl
theorem q609 : (Jvm.Cond.selects "java/lang/String" ({ cls := "java/lang/Object", name := "equals", desc := "(Ljava/lang/Object;)Z" } : Jvm.MethodName) ({ cls := "java/lang/String", name := "equals", desc := "(Ljava/lang/Object;)Z" } : Jvm.MethodName)) ∈ lw_all := lw_g (lw_at lw_m3 37 rfl) rfl
theorem q610 : (Jvm.Cond.instanceMethod ({ cls := "java/lang/String", name := "equals", desc := "(Ljava/lang/Object;)Z" } : Jvm.MethodName)) ∈ lw_all := lw_g (lw_at lw_m3 38 rfl) rfl
theorem q611 : (Jvm.Cond.code ({ cls := "java/lang/String", name := "equals", desc := "(Ljava/lang/Object;)Z" } : Jvm.MethodName) prog_41_method_66_code (3 : Nat) (Option.some Jvm.ClassFile.FieldType.boolean)) ∈ lw_all := lw_g (lw_at lw_m3 39 rfl) rfl
theorem q612 : (Jvm.Cond.classLink "java/lang/String" (10 : Nat) "java/lang/String") ∈ lw_all := lw_g (lw_at lw_m3 40 rfl) rfl
theorem q613 : (Jvm.Cond.methodLink "java/lang/String" (541 : Nat) ({ cls := "java/lang/StringLatin1", name := "equals", desc := "([B[B)Z" } : Jvm.MethodName)) ∈ lw_all := lw_g (lw_at lw_m3 41 rfl) rfl
theorem q660 : (Jvm.Cond.castable "java/lang/String" "java/lang/Comparable") ∈ lw_tbl := lw_at lw_m3 88 rfl
theorem q661 : (Jvm.Cond.selects "java/lang/String" ({ cls := "java/lang/Comparable", name := "compareTo", desc := "(Ljava/lang/Object;)I" } : Jvm.MethodName) ({ cls := "java/lang/String", name := "compareTo", desc := "(Ljava/lang/Object;)I" } : Jvm.MethodName)) ∈ lw_all := lw_g (lw_at lw_m3 89 rfl) rfl
theorem q662 : (Jvm.Cond.unhidden "java/lang/String" "compareTo" "(Ljava/lang/Object;)I") ∈ lw_tbl := lw_at lw_m3 90 rfl
theorem q663 : (Jvm.Cond.instanceMethod ({ cls := "java/lang/String", name := "compareTo", desc := "(Ljava/lang/Object;)I" } : Jvm.MethodName)) ∈ lw_all := lw_g (lw_at lw_m3 91 rfl) rfl
theorem q664 : (Jvm.Cond.publicMethod ({ cls := "java/lang/String", name := "compareTo", desc := "(Ljava/lang/Object;)I" } : Jvm.MethodName)) ∈ lw_tbl := lw_at lw_m3 92 rfl
theorem q665 : (Jvm.Cond.code ({ cls := "java/lang/String", name := "compareTo", desc := "(Ljava/lang/Object;)I" } : Jvm.MethodName) prog_41_method_162_code (2 : Nat) (Option.some Jvm.ClassFile.FieldType.int)) ∈ lw_all := lw_g (lw_at lw_m3 93 rfl) rfl
theorem q666 : (Jvm.Cond.methodLink "java/lang/String" (1084 : Nat) ({ cls := "java/lang/String", name := "compareTo", desc := "(Ljava/lang/String;)I" } : Jvm.MethodName)) ∈ lw_all := lw_g (lw_at lw_m3 94 rfl) rfl
theorem q667 : (Jvm.Cond.instanceMethod ({ cls := "java/lang/String", name := "compareTo", desc := "(Ljava/lang/String;)I" } : Jvm.MethodName)) ∈ lw_all := lw_g (lw_at lw_m3 95 rfl) rfl
theorem q668 : (Jvm.Cond.selects "java/lang/String" ({ cls := "java/lang/String", name := "compareTo", desc := "(Ljava/lang/String;)I" } : Jvm.MethodName) ({ cls := "java/lang/String", name := "compareTo", desc := "(Ljava/lang/String;)I" } : Jvm.MethodName)) ∈ lw_all := lw_g (lw_at lw_m3 96 rfl) rfl
theorem q669 : (Jvm.Cond.code ({ cls := "java/lang/String", name := "compareTo", desc := "(Ljava/lang/String;)I" } : Jvm.MethodName) prog_41_method_71_code (5 : Nat) (Option.some Jvm.ClassFile.FieldType.int)) ∈ lw_all := lw_g (lw_at lw_m3 97 rfl) rfl
theorem q670 : (Jvm.Cond.methodLink "java/lang/String" (335 : Nat) ({ cls := "java/lang/String", name := "coder", desc := "()B" } : Jvm.MethodName)) ∈ lw_all := lw_g (lw_at lw_m3 98 rfl) rfl
theorem q671 : (Jvm.Cond.instanceMethod ({ cls := "java/lang/String", name := "coder", desc := "()B" } : Jvm.MethodName)) ∈ lw_all := lw_g (lw_at lw_m3 99 rfl) rfl
theorem q672 : (Jvm.Cond.selects "java/lang/String" ({ cls := "java/lang/String", name := "coder", desc := "()B" } : Jvm.MethodName) ({ cls := "java/lang/String", name := "coder", desc := "()B" } : Jvm.MethodName)) ∈ lw_all := lw_g (lw_at lw_m3 100 rfl) rfl
theorem q673 : (Jvm.Cond.code ({ cls := "java/lang/String", name := "coder", desc := "()B" } : Jvm.MethodName) prog_41_method_152_code (1 : Nat) (Option.some Jvm.ClassFile.FieldType.byte)) ∈ lw_all := lw_g (lw_at lw_m3 101 rfl) rfl
theorem q674 : (Jvm.Cond.methodLink "java/lang/String" (586 : Nat) ({ cls := "java/lang/StringLatin1", name := "compareTo", desc := "([B[B)I" } : Jvm.MethodName)) ∈ lw_all := lw_g (lw_at lw_m3 102 rfl) rfl
theorem q788 : (Jvm.Cond.methodLink "java/lang/String" (590 : Nat) ({ cls := "java/lang/StringUTF16", name := "compareTo", desc := "([B[B)I" } : Jvm.MethodName)) ∈ lw_all := lw_g (lw_at lw_m3 216 rfl) rfl
theorem q795 : (Jvm.Cond.methodLink "java/lang/String" (591 : Nat) ({ cls := "java/lang/StringLatin1", name := "compareToUTF16", desc := "([B[B)I" } : Jvm.MethodName)) ∈ lw_all := lw_g (lw_at lw_m3 223 rfl) rfl
theorem q806 : (Jvm.Cond.methodLink "java/lang/String" (594 : Nat) ({ cls := "java/lang/StringUTF16", name := "compareToLatin1", desc := "([B[B)I" } : Jvm.MethodName)) ∈ lw_all := lw_g (lw_at lw_m3 234 rfl) rfl
theorem q839 : (Jvm.Cond.static ({ cls := "java/lang/String", name := "checkOffset", desc := "(II)V" } : Jvm.MethodName)) ∈ lw_all := lw_g (lw_at lw_m4 27 rfl) rfl
theorem q840 : (Jvm.Cond.code ({ cls := "java/lang/String", name := "checkOffset", desc := "(II)V" } : Jvm.MethodName) prog_41_method_156_code (2 : Nat) (Option.none : Option Jvm.ClassFile.FieldType)) ∈ lw_all := lw_g (lw_at lw_m4 28 rfl) rfl
theorem q841 : (Jvm.Cond.fieldLink "java/lang/String" (1053 : Nat) "jdk/internal/util/Preconditions" "SIOOBE_FORMATTER" "Ljava/util/function/BiFunction;") ∈ lw_all := lw_g (lw_at lw_m4 29 rfl) rfl
theorem q843 : (Jvm.Cond.methodLink "java/lang/String" (1062 : Nat) ({ cls := "jdk/internal/util/Preconditions", name := "checkFromToIndex", desc := "(IIILjava/util/function/BiFunction;)I" } : Jvm.MethodName)) ∈ lw_all := lw_g (lw_at lw_m4 31 rfl) rfl
theorem q1138 : (Jvm.Cond.fieldLink "java/lang/String" (1048 : Nat) "java/lang/AbstractStringBuilder" "maybeLatin1" "Z") ∈ lw_all := lw_g (lw_at lw_m5 86 rfl) rfl
theorem q1192 : (Jvm.Cond.static ({ cls := "java/lang/String", name := "checkBoundsOffCount", desc := "(III)I" } : Jvm.MethodName)) ∈ lw_all := lw_g (lw_at lw_m5 140 rfl) rfl
theorem q1193 : (Jvm.Cond.code ({ cls := "java/lang/String", name := "checkBoundsOffCount", desc := "(III)I" } : Jvm.MethodName) prog_41_method_157_code (3 : Nat) (Option.some Jvm.ClassFile.FieldType.int)) ∈ lw_all := lw_g (lw_at lw_m5 141 rfl) rfl
theorem q1194 : (Jvm.Cond.methodLink "java/lang/String" (1065 : Nat) ({ cls := "jdk/internal/util/Preconditions", name := "checkFromIndexSize", desc := "(IIILjava/util/function/BiFunction;)I" } : Jvm.MethodName)) ∈ lw_all := lw_g (lw_at lw_m5 142 rfl) rfl
theorem q1207 : (Jvm.Cond.static ({ cls := "java/lang/String", name := "checkIndex", desc := "(II)V" } : Jvm.MethodName)) ∈ lw_all := lw_g (lw_at lw_m5 155 rfl) rfl
theorem q1208 : (Jvm.Cond.code ({ cls := "java/lang/String", name := "checkIndex", desc := "(II)V" } : Jvm.MethodName) prog_41_method_155_code (2 : Nat) (Option.none : Option Jvm.ClassFile.FieldType)) ∈ lw_all := lw_g (lw_at lw_m5 156 rfl) rfl
theorem q1209 : (Jvm.Cond.methodLink "java/lang/String" (1059 : Nat) ({ cls := "jdk/internal/util/Preconditions", name := "checkIndex", desc := "(IILjava/util/function/BiFunction;)I" } : Jvm.MethodName)) ∈ lw_all := lw_g (lw_at lw_m5 157 rfl) rfl
theorem q1217 : (Jvm.Cond.instantiable "java/lang/String" (4 : Nat)) ∈ lw_all := lw_g (lw_at lw_m5 165 rfl) rfl
theorem q1219 : (Jvm.Cond.instanceMethod ({ cls := "java/lang/String", name := "<init>", desc := "(Ljava/lang/StringBuilder;)V" } : Jvm.MethodName)) ∈ lw_all := lw_g (lw_at lw_m5 167 rfl) rfl
theorem q1220 : (Jvm.Cond.code ({ cls := "java/lang/String", name := "<init>", desc := "(Ljava/lang/StringBuilder;)V" } : Jvm.MethodName) prog_41_method_53_code (2 : Nat) (Option.none : Option Jvm.ClassFile.FieldType)) ∈ lw_all := lw_g (lw_at lw_m5 168 rfl) rfl
theorem q1221 : (Jvm.Cond.methodLink "java/lang/String" (489 : Nat) ({ cls := "java/lang/String", name := "<init>", desc := "(Ljava/lang/AbstractStringBuilder;Ljava/lang/Void;)V" } : Jvm.MethodName)) ∈ lw_all := lw_g (lw_at lw_m5 169 rfl) rfl
theorem q1222 : (Jvm.Cond.instanceMethod ({ cls := "java/lang/String", name := "<init>", desc := "(Ljava/lang/AbstractStringBuilder;Ljava/lang/Void;)V" } : Jvm.MethodName)) ∈ lw_all := lw_g (lw_at lw_m5 170 rfl) rfl
theorem q1223 : (Jvm.Cond.code ({ cls := "java/lang/String", name := "<init>", desc := "(Ljava/lang/AbstractStringBuilder;Ljava/lang/Void;)V" } : Jvm.MethodName) prog_41_method_150_code (5 : Nat) (Option.none : Option Jvm.ClassFile.FieldType)) ∈ lw_all := lw_g (lw_at lw_m5 171 rfl) rfl
theorem q1224 : (Jvm.Cond.methodLink "java/lang/String" (1 : Nat) ({ cls := "java/lang/Object", name := "<init>", desc := "()V" } : Jvm.MethodName)) ∈ lw_all := lw_g (lw_at lw_m5 172 rfl) rfl
theorem q1225 : (Jvm.Cond.methodLink "java/lang/String" (552 : Nat) ({ cls := "java/lang/AbstractStringBuilder", name := "getValue", desc := "()[B" } : Jvm.MethodName)) ∈ lw_all := lw_g (lw_at lw_m5 173 rfl) rfl
theorem q1230 : (Jvm.Cond.methodLink "java/lang/String" (549 : Nat) ({ cls := "java/lang/AbstractStringBuilder", name := "length", desc := "()I" } : Jvm.MethodName)) ∈ lw_all := lw_g (lw_at lw_m5 178 rfl) rfl
theorem q1238 : (Jvm.Cond.methodLink "java/lang/String" (1047 : Nat) ({ cls := "java/lang/AbstractStringBuilder", name := "isLatin1", desc := "()Z" } : Jvm.MethodName)) ∈ lw_all := lw_g (lw_at lw_m5 186 rfl) rfl
theorem q1239 : (Jvm.Cond.methodLink "java/lang/String" (54 : Nat) ({ cls := "java/util/Arrays", name := "copyOfRange", desc := "([BII)[B" } : Jvm.MethodName)) ∈ lw_all := lw_g (lw_at lw_m5 187 rfl) rfl
theorem q1248 : (Jvm.Cond.methodLink "java/lang/String" (1051 : Nat) ({ cls := "java/lang/StringUTF16", name := "compress", desc := "([BII)[B" } : Jvm.MethodName)) ∈ lw_all := lw_g (lw_at lw_m5 196 rfl) rfl
theorem q1255 : (Jvm.Cond.methodLink "java/lang/String" (47 : Nat) ({ cls := "java/lang/StringUTF16", name := "coderFromArrayLen", desc := "([BI)B" } : Jvm.MethodName)) ∈ lw_all := lw_g (lw_at lw_m5 203 rfl) rfl
theorem q1258 : (Jvm.Cond.fieldLink "java/lang/String" (9 : Nat) "java/lang/String" "value" "[B") ∈ lw_all := lw_g (lw_at lw_m5 206 rfl) rfl
theorem q1259 : (Jvm.Cond.fieldLink "java/lang/String" (15 : Nat) "java/lang/String" "coder" "B") ∈ lw_all := lw_g (lw_at lw_m5 207 rfl) rfl
theorem q1260 : (Jvm.Cond.fieldLink "java/lang/String" (19 : Nat) "java/lang/String" "hash" "I") ∈ lw_all := lw_g (lw_at lw_m5 208 rfl) rfl
theorem q1261 : (Jvm.Cond.fieldLink "java/lang/String" (23 : Nat) "java/lang/String" "hashIsZero" "Z") ∈ lw_all := lw_g (lw_at lw_m5 209 rfl) rfl
theorem q1262 : (Jvm.Cond.laysFinal "java/lang/String" "java/lang/String" "value" "[B") ∈ lw_all := lw_g (lw_at lw_m5 210 rfl) rfl
theorem q1263 : (Jvm.Cond.soleField "java/lang/String" "value") ∈ lw_all := lw_g (lw_at lw_m5 211 rfl) rfl
theorem q1264 : (Jvm.Cond.laysFinal "java/lang/String" "java/lang/String" "coder" "B") ∈ lw_all := lw_g (lw_at lw_m5 212 rfl) rfl
theorem q1265 : (Jvm.Cond.soleField "java/lang/String" "coder") ∈ lw_all := lw_g (lw_at lw_m5 213 rfl) rfl
theorem q1266 : (Jvm.Cond.lays "java/lang/String" "java/lang/String" "hash" "I") ∈ lw_all := lw_g (lw_at lw_m5 214 rfl) rfl
theorem q1267 : (Jvm.Cond.soleField "java/lang/String" "hash") ∈ lw_all := lw_g (lw_at lw_m5 215 rfl) rfl
theorem q1268 : (Jvm.Cond.lays "java/lang/String" "java/lang/String" "hashIsZero" "Z") ∈ lw_all := lw_g (lw_at lw_m5 216 rfl) rfl
theorem q1269 : (Jvm.Cond.soleField "java/lang/String" "hashIsZero") ∈ lw_all := lw_g (lw_at lw_m5 217 rfl) rfl
theorem q1270 : (Jvm.Cond.superclass "java/lang/String" "java/lang/Object") ∈ lw_all := lw_g (lw_at lw_m5 218 rfl) rfl
theorem q1273 : (Jvm.Cond.instanceMethod ({ cls := "java/lang/String", name := "indexOf", desc := "(I)I" } : Jvm.MethodName)) ∈ lw_all := lw_g (lw_at lw_m5 221 rfl) rfl
theorem q1274 : (Jvm.Cond.selects "java/lang/String" ({ cls := "java/lang/String", name := "indexOf", desc := "(I)I" } : Jvm.MethodName) ({ cls := "java/lang/String", name := "indexOf", desc := "(I)I" } : Jvm.MethodName)) ∈ lw_all := lw_g (lw_at lw_m5 222 rfl) rfl
theorem q1275 : (Jvm.Cond.code ({ cls := "java/lang/String", name := "indexOf", desc := "(I)I" } : Jvm.MethodName) prog_41_method_79_code (2 : Nat) (Option.some Jvm.ClassFile.FieldType.int)) ∈ lw_all := lw_g (lw_at lw_m5 223 rfl) rfl
theorem q1276 : (Jvm.Cond.methodLink "java/lang/String" (633 : Nat) ({ cls := "java/lang/String", name := "indexOf", desc := "(II)I" } : Jvm.MethodName)) ∈ lw_all := lw_g (lw_at lw_m5 224 rfl) rfl
theorem q1277 : (Jvm.Cond.instanceMethod ({ cls := "java/lang/String", name := "indexOf", desc := "(II)I" } : Jvm.MethodName)) ∈ lw_all := lw_g (lw_at lw_m5 225 rfl) rfl
theorem q1278 : (Jvm.Cond.selects "java/lang/String" ({ cls := "java/lang/String", name := "indexOf", desc := "(II)I" } : Jvm.MethodName) ({ cls := "java/lang/String", name := "indexOf", desc := "(II)I" } : Jvm.MethodName)) ∈ lw_all := lw_g (lw_at lw_m5 226 rfl) rfl
theorem q1279 : (Jvm.Cond.code ({ cls := "java/lang/String", name := "indexOf", desc := "(II)I" } : Jvm.MethodName) prog_41_method_80_code (3 : Nat) (Option.some Jvm.ClassFile.FieldType.int)) ∈ lw_all := lw_g (lw_at lw_m5 227 rfl) rfl
theorem q1280 : (Jvm.Cond.methodLink "java/lang/String" (505 : Nat) ({ cls := "java/lang/String", name := "length", desc := "()I" } : Jvm.MethodName)) ∈ lw_all := lw_g (lw_at lw_m5 228 rfl) rfl
theorem q1281 : (Jvm.Cond.instanceMethod ({ cls := "java/lang/String", name := "length", desc := "()I" } : Jvm.MethodName)) ∈ lw_all := lw_g (lw_at lw_m5 229 rfl) rfl
theorem q1282 : (Jvm.Cond.selects "java/lang/String" ({ cls := "java/lang/String", name := "length", desc := "()I" } : Jvm.MethodName) ({ cls := "java/lang/String", name := "length", desc := "()I" } : Jvm.MethodName)) ∈ lw_all := lw_g (lw_at lw_m5 230 rfl) rfl
theorem q1283 : (Jvm.Cond.code ({ cls := "java/lang/String", name := "length", desc := "()I" } : Jvm.MethodName) prog_41_method_54_code (1 : Nat) (Option.some Jvm.ClassFile.FieldType.int)) ∈ lw_all := lw_g (lw_at lw_m5 231 rfl) rfl
theorem q1284 : (Jvm.Cond.methodLink "java/lang/String" (637 : Nat) ({ cls := "java/lang/StringLatin1", name := "indexOf", desc := "([BIII)I" } : Jvm.MethodName)) ∈ lw_all := lw_g (lw_at lw_m5 232 rfl) rfl
theorem q1294 : (Jvm.Cond.methodLink "java/lang/String" (640 : Nat) ({ cls := "java/lang/StringUTF16", name := "indexOf", desc := "([BIII)I" } : Jvm.MethodName)) ∈ lw_all := lw_g (lw_at lw_m6 2 rfl) rfl
theorem q1306 : (Jvm.Cond.static ({ cls := "java/lang/String", name := "checkBoundsBeginEnd", desc := "(III)V" } : Jvm.MethodName)) ∈ lw_all := lw_g (lw_at lw_m6 14 rfl) rfl
theorem q1307 : (Jvm.Cond.code ({ cls := "java/lang/String", name := "checkBoundsBeginEnd", desc := "(III)V" } : Jvm.MethodName) prog_41_method_158_code (3 : Nat) (Option.none : Option Jvm.ClassFile.FieldType)) ∈ lw_all := lw_g (lw_at lw_m6 15 rfl) rfl
theorem q1378 : (Jvm.Cond.instanceMethod ({ cls := "java/lang/String", name := "getBytes", desc := "([BIB)V" } : Jvm.MethodName)) ∈ lw_all := lw_g (lw_at lw_m6 86 rfl) rfl
theorem q1379 : (Jvm.Cond.selects "java/lang/String" ({ cls := "java/lang/String", name := "getBytes", desc := "([BIB)V" } : Jvm.MethodName) ({ cls := "java/lang/String", name := "getBytes", desc := "([BIB)V" } : Jvm.MethodName)) ∈ lw_all := lw_g (lw_at lw_m6 87 rfl) rfl
theorem q1380 : (Jvm.Cond.code ({ cls := "java/lang/String", name := "getBytes", desc := "([BIB)V" } : Jvm.MethodName) prog_41_method_147_code (4 : Nat) (Option.none : Option Jvm.ClassFile.FieldType)) ∈ lw_all := lw_g (lw_at lw_m6 88 rfl) rfl
theorem q1381 : (Jvm.Cond.methodLink "java/lang/String" (212 : Nat) ({ cls := "java/lang/System", name := "arraycopy", desc := "(Ljava/lang/Object;ILjava/lang/Object;II)V" } : Jvm.MethodName)) ∈ lw_all := lw_g (lw_at lw_m6 89 rfl) rfl
theorem q1382 : (Jvm.Cond.methodLink "java/lang/String" (106 : Nat) ({ cls := "java/lang/StringLatin1", name := "inflate", desc := "([BI[BII)V" } : Jvm.MethodName)) ∈ lw_all := lw_g (lw_at lw_m6 90 rfl) rfl
theorem q1384 : (Jvm.Cond.instanceMethod ({ cls := "java/lang/String", name := "contains", desc := "(Ljava/lang/CharSequence;)Z" } : Jvm.MethodName)) ∈ lw_all := lw_g (lw_at lw_m6 92 rfl) rfl
theorem q1385 : (Jvm.Cond.selects "java/lang/String" ({ cls := "java/lang/String", name := "contains", desc := "(Ljava/lang/CharSequence;)Z" } : Jvm.MethodName) ({ cls := "java/lang/String", name := "contains", desc := "(Ljava/lang/CharSequence;)Z" } : Jvm.MethodName)) ∈ lw_all := lw_g (lw_at lw_m6 93 rfl) rfl
theorem q1386 : (Jvm.Cond.code ({ cls := "java/lang/String", name := "contains", desc := "(Ljava/lang/CharSequence;)Z" } : Jvm.MethodName) prog_41_method_97_code (2 : Nat) (Option.some Jvm.ClassFile.FieldType.boolean)) ∈ lw_all := lw_g (lw_at lw_m6 94 rfl) rfl
theorem q1387 : (Jvm.Cond.interfaceEntry "java/lang/String" (710 : Nat)) ∈ lw_tbl := lw_at lw_m6 95 rfl
theorem q1388 : (Jvm.Cond.methodLink "java/lang/String" (710 : Nat) ({ cls := "java/lang/CharSequence", name := "toString", desc := "()Ljava/lang/String;" } : Jvm.MethodName)) ∈ lw_all := lw_g (lw_at lw_m6 96 rfl) rfl
theorem q1391 : (Jvm.Cond.castable "java/lang/String" "java/lang/CharSequence") ∈ lw_tbl := lw_at lw_m6 99 rfl
theorem q1392 : (Jvm.Cond.selects "java/lang/String" ({ cls := "java/lang/CharSequence", name := "toString", desc := "()Ljava/lang/String;" } : Jvm.MethodName) ({ cls := "java/lang/String", name := "toString", desc := "()Ljava/lang/String;" } : Jvm.MethodName)) ∈ lw_all := lw_g (lw_at lw_m6 100 rfl) rfl
theorem q1393 : (Jvm.Cond.unhidden "java/lang/String" "toString" "()Ljava/lang/String;") ∈ lw_tbl := lw_at lw_m6 101 rfl
theorem q1394 : (Jvm.Cond.instanceMethod ({ cls := "java/lang/String", name := "toString", desc := "()Ljava/lang/String;" } : Jvm.MethodName)) ∈ lw_all := lw_g (lw_at lw_m6 102 rfl) rfl
theorem q1395 : (Jvm.Cond.publicMethod ({ cls := "java/lang/String", name := "toString", desc := "()Ljava/lang/String;" } : Jvm.MethodName)) ∈ lw_tbl := lw_at lw_m6 103 rfl
theorem q1396 : (Jvm.Cond.code ({ cls := "java/lang/String", name := "toString", desc := "()Ljava/lang/String;" } : Jvm.MethodName) prog_41_method_126_code (1 : Nat) (Option.some (Jvm.ClassFile.FieldType.object "java/lang/String"))) ∈ lw_all := lw_g (lw_at lw_m6 104 rfl) rfl
theorem q1401 : (Jvm.Cond.methodLink "java/lang/String" (711 : Nat) ({ cls := "java/lang/String", name := "indexOf", desc := "(Ljava/lang/String;)I" } : Jvm.MethodName)) ∈ lw_all := lw_g (lw_at lw_m6 109 rfl) rfl
theorem q1402 : (Jvm.Cond.instanceMethod ({ cls := "java/lang/String", name := "indexOf", desc := "(Ljava/lang/String;)I" } : Jvm.MethodName)) ∈ lw_all := lw_g (lw_at lw_m6 110 rfl) rfl
theorem q1403 : (Jvm.Cond.selects "java/lang/String" ({ cls := "java/lang/String", name := "indexOf", desc := "(Ljava/lang/String;)I" } : Jvm.MethodName) ({ cls := "java/lang/String", name := "indexOf", desc := "(Ljava/lang/String;)I" } : Jvm.MethodName)) ∈ lw_all := lw_g (lw_at lw_m6 111 rfl) rfl
theorem q1404 : (Jvm.Cond.code ({ cls := "java/lang/String", name := "indexOf", desc := "(Ljava/lang/String;)I" } : Jvm.MethodName) prog_41_method_84_code (3 : Nat) (Option.some Jvm.ClassFile.FieldType.int)) ∈ lw_all := lw_g (lw_at lw_m6 112 rfl) rfl
theorem q1405 : (Jvm.Cond.methodLink "java/lang/String" (647 : Nat) ({ cls := "java/lang/StringLatin1", name := "indexOf", desc := "([B[B)I" } : Jvm.MethodName)) ∈ lw_all := lw_g (lw_at lw_m6 113 rfl) rfl
theorem q1411 : (Jvm.Cond.methodLink "java/lang/String" (649 : Nat) ({ cls := "java/lang/StringUTF16", name := "indexOf", desc := "([B[B)I" } : Jvm.MethodName)) ∈ lw_all := lw_g (lw_at lw_m6 119 rfl) rfl
theorem q1417 : (Jvm.Cond.methodLink "java/lang/String" (650 : Nat) ({ cls := "java/lang/StringUTF16", name := "indexOfLatin1", desc := "([B[B)I" } : Jvm.MethodName)) ∈ lw_all := lw_g (lw_at lw_m6 125 rfl) rfl
theorem q2919 : (Jvm.Cond.selects "java/lang/String" ({ cls := "java/lang/String", name := "equals", desc := "(Ljava/lang/Object;)Z" } : Jvm.MethodName) ({ cls := "java/lang/String", name := "equals", desc := "(Ljava/lang/Object;)Z" } : Jvm.MethodName)) ∈ lw_all := lw_g (lw_at lw_m12 187 rfl) rfl
theorem q2924 : (Jvm.Cond.selects "java/lang/String" ({ cls := "java/lang/String", name := "hashCode", desc := "()I" } : Jvm.MethodName) ({ cls := "java/lang/String", name := "hashCode", desc := "()I" } : Jvm.MethodName)) ∈ lw_all := lw_g (lw_at lw_m12 192 rfl) rfl
theorem q2948 : (Jvm.Cond.castable "java/lang/String" "java/lang/Object") ∈ lw_tbl := lw_at lw_m12 216 rfl
theorem in_J13 : ∀ w ∈ wsJ130, w ∈ lw_all := lw_in wsJ130 [1262, 1264, 1266, 1268] (by decide +kernel) (by decide +kernel)

/-! java/lang/StringLatin1 -/
set_option maxRecDepth 100000
def RJ14 : String := "java/lang/StringLatin1"
abbrev cJ14_hashCode : ByteArray := prog_43_method_21_code
def yJ14_hashCode : MethodName := ⟨RJ14, "hashCode", "([B)I"⟩
def dkwJ14_hashCode_2 : List UInt8 := [3, 167, 0, 22, 42, 3, 51, 17, 0, 255, 126, 167, 0, 12, 42, 3, 42, 190, 3, 7, 184, 0, 84, 172]
abbrev dktJ14_hashCode_2 : List UInt8 := dkwJ14_hashCode_2 ++ []
def dkwJ14_hashCode_1 : List UInt8 := [171, 0, 0, 0, 0, 40, 0, 0, 0, 2, 0, 0, 0, 0, 0, 0, 0, 26, 0, 0, 0, 1, 0, 0, 0, 30]
abbrev dktJ14_hashCode_1 : List UInt8 := dkwJ14_hashCode_1 ++ dktJ14_hashCode_2
def dkwJ14_hashCode_0 : List UInt8 := [42, 190]
abbrev dktJ14_hashCode_0 : List UInt8 := dkwJ14_hashCode_0 ++ dktJ14_hashCode_1
theorem dksJ14_hashCode_0 : cJ14_hashCode.data.toList.drop 0 = dktJ14_hashCode_0 := by decide +kernel
theorem dksJ14_hashCode_1 : cJ14_hashCode.data.toList.drop 2 = dktJ14_hashCode_1 := dk_seg dksJ14_hashCode_0 2 rfl rfl
theorem dksJ14_hashCode_2 : cJ14_hashCode.data.toList.drop 28 = dktJ14_hashCode_2 := dk_seg dksJ14_hashCode_1 26 rfl rfl
theorem dJ14_hashCode_0 : decode cJ14_hashCode 0 = .ok (.aload_n 0, 1) := dk_42 (dk_at dksJ14_hashCode_0 0 rfl rfl)
theorem dJ14_hashCode_1 : decode cJ14_hashCode 1 = .ok (.arraylength, 1) := dk_190 (dk_at dksJ14_hashCode_0 1 rfl rfl)
theorem dJ14_hashCode_2 : decode cJ14_hashCode 2 = .ok (.lookupswitch 40 #[(0, 26), (1, 30)], 26) := by decide +kernel
theorem dJ14_hashCode_28 : decode cJ14_hashCode 28 = .ok (.iconst 0, 1) := dk_3 (dk_at dksJ14_hashCode_2 0 rfl rfl)
theorem dJ14_hashCode_29 : decode cJ14_hashCode 29 = .ok (.goto 22, 3) := dk_167 0 22 (dk_at dksJ14_hashCode_2 1 rfl rfl)
theorem dJ14_hashCode_32 : decode cJ14_hashCode 32 = .ok (.aload_n 0, 1) := dk_42 (dk_at dksJ14_hashCode_2 4 rfl rfl)
theorem dJ14_hashCode_33 : decode cJ14_hashCode 33 = .ok (.iconst 0, 1) := dk_3 (dk_at dksJ14_hashCode_2 5 rfl rfl)
theorem dJ14_hashCode_34 : decode cJ14_hashCode 34 = .ok (.baload, 1) := dk_51 (dk_at dksJ14_hashCode_2 6 rfl rfl)
theorem dJ14_hashCode_35 : decode cJ14_hashCode 35 = .ok (.sipush 255, 3) := dk_17 0 255 (dk_at dksJ14_hashCode_2 7 rfl rfl)
theorem dJ14_hashCode_38 : decode cJ14_hashCode 38 = .ok (.iand, 1) := dk_126 (dk_at dksJ14_hashCode_2 10 rfl rfl)
theorem dJ14_hashCode_39 : decode cJ14_hashCode 39 = .ok (.goto 12, 3) := dk_167 0 12 (dk_at dksJ14_hashCode_2 11 rfl rfl)
theorem dJ14_hashCode_42 : decode cJ14_hashCode 42 = .ok (.aload_n 0, 1) := dk_42 (dk_at dksJ14_hashCode_2 14 rfl rfl)
theorem dJ14_hashCode_43 : decode cJ14_hashCode 43 = .ok (.iconst 0, 1) := dk_3 (dk_at dksJ14_hashCode_2 15 rfl rfl)
theorem dJ14_hashCode_44 : decode cJ14_hashCode 44 = .ok (.aload_n 0, 1) := dk_42 (dk_at dksJ14_hashCode_2 16 rfl rfl)
theorem dJ14_hashCode_45 : decode cJ14_hashCode 45 = .ok (.arraylength, 1) := dk_190 (dk_at dksJ14_hashCode_2 17 rfl rfl)
theorem dJ14_hashCode_46 : decode cJ14_hashCode 46 = .ok (.iconst 0, 1) := dk_3 (dk_at dksJ14_hashCode_2 18 rfl rfl)
theorem dJ14_hashCode_47 : decode cJ14_hashCode 47 = .ok (.iconst 4, 1) := dk_7 (dk_at dksJ14_hashCode_2 19 rfl rfl)
theorem dJ14_hashCode_48 : decode cJ14_hashCode 48 = .ok (.invokestatic 84, 3) := dk_184 0 84 (dk_at dksJ14_hashCode_2 20 rfl rfl)
theorem dJ14_hashCode_51 : decode cJ14_hashCode 51 = .ok (.ireturn, 1) := dk_172 (dk_at dksJ14_hashCode_2 23 rfl rfl)
abbrev cJ14_equals : ByteArray := prog_43_method_13_code
def yJ14_equals : MethodName := ⟨RJ14, "equals", "([B[B)Z"⟩
def dkwJ14_equals_1 : List UInt8 := [3, 172, 132, 2, 1, 167, 255, 236, 4, 172, 3, 172]
abbrev dktJ14_equals_1 : List UInt8 := dkwJ14_equals_1 ++ []
def dkwJ14_equals_0 : List UInt8 := [42, 190, 43, 190, 160, 0, 30, 3, 61, 28, 42, 190, 162, 0, 20, 42, 28, 51, 43, 28, 51, 159, 0, 5]
abbrev dktJ14_equals_0 : List UInt8 := dkwJ14_equals_0 ++ dktJ14_equals_1
theorem dksJ14_equals_0 : cJ14_equals.data.toList.drop 0 = dktJ14_equals_0 := by decide +kernel
theorem dksJ14_equals_1 : cJ14_equals.data.toList.drop 24 = dktJ14_equals_1 := dk_seg dksJ14_equals_0 24 rfl rfl
theorem dJ14_equals_0 : decode cJ14_equals 0 = .ok (.aload_n 0, 1) := dk_42 (dk_at dksJ14_equals_0 0 rfl rfl)
theorem dJ14_equals_1 : decode cJ14_equals 1 = .ok (.arraylength, 1) := dk_190 (dk_at dksJ14_equals_0 1 rfl rfl)
theorem dJ14_equals_2 : decode cJ14_equals 2 = .ok (.aload_n 1, 1) := dk_43 (dk_at dksJ14_equals_0 2 rfl rfl)
theorem dJ14_equals_3 : decode cJ14_equals 3 = .ok (.arraylength, 1) := dk_190 (dk_at dksJ14_equals_0 3 rfl rfl)
theorem dJ14_equals_4 : decode cJ14_equals 4 = .ok (.if_icmp .ne 30, 3) := dk_160 0 30 (dk_at dksJ14_equals_0 4 rfl rfl)
theorem dJ14_equals_7 : decode cJ14_equals 7 = .ok (.iconst 0, 1) := dk_3 (dk_at dksJ14_equals_0 7 rfl rfl)
theorem dJ14_equals_8 : decode cJ14_equals 8 = .ok (.istore_n 2, 1) := dk_61 (dk_at dksJ14_equals_0 8 rfl rfl)
theorem dJ14_equals_9 : decode cJ14_equals 9 = .ok (.iload_n 2, 1) := dk_28 (dk_at dksJ14_equals_0 9 rfl rfl)
theorem dJ14_equals_10 : decode cJ14_equals 10 = .ok (.aload_n 0, 1) := dk_42 (dk_at dksJ14_equals_0 10 rfl rfl)
theorem dJ14_equals_11 : decode cJ14_equals 11 = .ok (.arraylength, 1) := dk_190 (dk_at dksJ14_equals_0 11 rfl rfl)
theorem dJ14_equals_12 : decode cJ14_equals 12 = .ok (.if_icmp .ge 20, 3) := dk_162 0 20 (dk_at dksJ14_equals_0 12 rfl rfl)
theorem dJ14_equals_15 : decode cJ14_equals 15 = .ok (.aload_n 0, 1) := dk_42 (dk_at dksJ14_equals_0 15 rfl rfl)
theorem dJ14_equals_16 : decode cJ14_equals 16 = .ok (.iload_n 2, 1) := dk_28 (dk_at dksJ14_equals_0 16 rfl rfl)
theorem dJ14_equals_17 : decode cJ14_equals 17 = .ok (.baload, 1) := dk_51 (dk_at dksJ14_equals_0 17 rfl rfl)
theorem dJ14_equals_18 : decode cJ14_equals 18 = .ok (.aload_n 1, 1) := dk_43 (dk_at dksJ14_equals_0 18 rfl rfl)
theorem dJ14_equals_19 : decode cJ14_equals 19 = .ok (.iload_n 2, 1) := dk_28 (dk_at dksJ14_equals_0 19 rfl rfl)
theorem dJ14_equals_20 : decode cJ14_equals 20 = .ok (.baload, 1) := dk_51 (dk_at dksJ14_equals_0 20 rfl rfl)
theorem dJ14_equals_21 : decode cJ14_equals 21 = .ok (.if_icmp .eq 5, 3) := dk_159 0 5 (dk_at dksJ14_equals_0 21 rfl rfl)
theorem dJ14_equals_24 : decode cJ14_equals 24 = .ok (.iconst 0, 1) := dk_3 (dk_at dksJ14_equals_1 0 rfl rfl)
theorem dJ14_equals_25 : decode cJ14_equals 25 = .ok (.ireturn, 1) := dk_172 (dk_at dksJ14_equals_1 1 rfl rfl)
theorem dJ14_equals_26 : decode cJ14_equals 26 = .ok (.iinc 2 1, 3) := dk_132 2 1 (dk_at dksJ14_equals_1 2 rfl rfl)
theorem dJ14_equals_29 : decode cJ14_equals 29 = .ok (.goto (-20), 3) := dk_167 255 236 (dk_at dksJ14_equals_1 5 rfl rfl)
theorem dJ14_equals_32 : decode cJ14_equals 32 = .ok (.iconst 1, 1) := dk_4 (dk_at dksJ14_equals_1 8 rfl rfl)
theorem dJ14_equals_33 : decode cJ14_equals 33 = .ok (.ireturn, 1) := dk_172 (dk_at dksJ14_equals_1 9 rfl rfl)
theorem dJ14_equals_34 : decode cJ14_equals 34 = .ok (.iconst 0, 1) := dk_3 (dk_at dksJ14_equals_1 10 rfl rfl)
theorem dJ14_equals_35 : decode cJ14_equals 35 = .ok (.ireturn, 1) := dk_172 (dk_at dksJ14_equals_1 11 rfl rfl)
abbrev cJ14_compareTo : ByteArray := prog_43_method_14_code
def yJ14_compareTo : MethodName := ⟨RJ14, "compareTo", "([B[B)I"⟩
def dkwJ14_compareTo_0 : List UInt8 := [42, 190, 61, 43, 190, 62, 42, 43, 28, 29, 184, 0, 34, 172]
abbrev dktJ14_compareTo_0 : List UInt8 := dkwJ14_compareTo_0 ++ []
theorem dksJ14_compareTo_0 : cJ14_compareTo.data.toList.drop 0 = dktJ14_compareTo_0 := by decide +kernel
theorem dJ14_compareTo_0 : decode cJ14_compareTo 0 = .ok (.aload_n 0, 1) := dk_42 (dk_at dksJ14_compareTo_0 0 rfl rfl)
theorem dJ14_compareTo_1 : decode cJ14_compareTo 1 = .ok (.arraylength, 1) := dk_190 (dk_at dksJ14_compareTo_0 1 rfl rfl)
theorem dJ14_compareTo_2 : decode cJ14_compareTo 2 = .ok (.istore_n 2, 1) := dk_61 (dk_at dksJ14_compareTo_0 2 rfl rfl)
theorem dJ14_compareTo_3 : decode cJ14_compareTo 3 = .ok (.aload_n 1, 1) := dk_43 (dk_at dksJ14_compareTo_0 3 rfl rfl)
theorem dJ14_compareTo_4 : decode cJ14_compareTo 4 = .ok (.arraylength, 1) := dk_190 (dk_at dksJ14_compareTo_0 4 rfl rfl)
theorem dJ14_compareTo_5 : decode cJ14_compareTo 5 = .ok (.istore_n 3, 1) := dk_62 (dk_at dksJ14_compareTo_0 5 rfl rfl)
theorem dJ14_compareTo_6 : decode cJ14_compareTo 6 = .ok (.aload_n 0, 1) := dk_42 (dk_at dksJ14_compareTo_0 6 rfl rfl)
theorem dJ14_compareTo_7 : decode cJ14_compareTo 7 = .ok (.aload_n 1, 1) := dk_43 (dk_at dksJ14_compareTo_0 7 rfl rfl)
theorem dJ14_compareTo_8 : decode cJ14_compareTo 8 = .ok (.iload_n 2, 1) := dk_28 (dk_at dksJ14_compareTo_0 8 rfl rfl)
theorem dJ14_compareTo_9 : decode cJ14_compareTo 9 = .ok (.iload_n 3, 1) := dk_29 (dk_at dksJ14_compareTo_0 9 rfl rfl)
theorem dJ14_compareTo_10 : decode cJ14_compareTo 10 = .ok (.invokestatic 34, 3) := dk_184 0 34 (dk_at dksJ14_compareTo_0 10 rfl rfl)
theorem dJ14_compareTo_13 : decode cJ14_compareTo 13 = .ok (.ireturn, 1) := dk_172 (dk_at dksJ14_compareTo_0 13 rfl rfl)
abbrev cJ14_compareTo_2 : ByteArray := prog_43_method_15_code
def yJ14_compareTo_2 : MethodName := ⟨RJ14, "compareTo", "([B[BII)I"⟩
def dkwJ14_compareTo_2_1 : List UInt8 := [167, 0, 16, 42, 21, 5, 184, 0, 50, 43, 21, 5, 184, 0, 50, 100, 172]
abbrev dktJ14_compareTo_2_1 : List UInt8 := dkwJ14_compareTo_2_1 ++ []
def dkwJ14_compareTo_2_0 : List UInt8 := [28, 29, 184, 0, 38, 54, 4, 42, 43, 21, 4, 184, 0, 44, 54, 5, 21, 5, 156, 0, 9, 28, 29, 100]
abbrev dktJ14_compareTo_2_0 : List UInt8 := dkwJ14_compareTo_2_0 ++ dktJ14_compareTo_2_1
theorem dksJ14_compareTo_2_0 : cJ14_compareTo_2.data.toList.drop 0 = dktJ14_compareTo_2_0 := by decide +kernel
theorem dksJ14_compareTo_2_1 : cJ14_compareTo_2.data.toList.drop 24 = dktJ14_compareTo_2_1 := dk_seg dksJ14_compareTo_2_0 24 rfl rfl
theorem dJ14_compareTo_2_0 : decode cJ14_compareTo_2 0 = .ok (.iload_n 2, 1) := dk_28 (dk_at dksJ14_compareTo_2_0 0 rfl rfl)
theorem dJ14_compareTo_2_1 : decode cJ14_compareTo_2 1 = .ok (.iload_n 3, 1) := dk_29 (dk_at dksJ14_compareTo_2_0 1 rfl rfl)
theorem dJ14_compareTo_2_2 : decode cJ14_compareTo_2 2 = .ok (.invokestatic 38, 3) := dk_184 0 38 (dk_at dksJ14_compareTo_2_0 2 rfl rfl)
theorem dJ14_compareTo_2_5 : decode cJ14_compareTo_2 5 = .ok (.istore 4, 2) := dk_54 4 (dk_at dksJ14_compareTo_2_0 5 rfl rfl)
theorem dJ14_compareTo_2_7 : decode cJ14_compareTo_2 7 = .ok (.aload_n 0, 1) := dk_42 (dk_at dksJ14_compareTo_2_0 7 rfl rfl)
theorem dJ14_compareTo_2_8 : decode cJ14_compareTo_2 8 = .ok (.aload_n 1, 1) := dk_43 (dk_at dksJ14_compareTo_2_0 8 rfl rfl)
theorem dJ14_compareTo_2_9 : decode cJ14_compareTo_2 9 = .ok (.iload 4, 2) := dk_21 4 (dk_at dksJ14_compareTo_2_0 9 rfl rfl)
theorem dJ14_compareTo_2_11 : decode cJ14_compareTo_2 11 = .ok (.invokestatic 44, 3) := dk_184 0 44 (dk_at dksJ14_compareTo_2_0 11 rfl rfl)
theorem dJ14_compareTo_2_14 : decode cJ14_compareTo_2 14 = .ok (.istore 5, 2) := dk_54 5 (dk_at dksJ14_compareTo_2_0 14 rfl rfl)
theorem dJ14_compareTo_2_16 : decode cJ14_compareTo_2 16 = .ok (.iload 5, 2) := dk_21 5 (dk_at dksJ14_compareTo_2_0 16 rfl rfl)
theorem dJ14_compareTo_2_18 : decode cJ14_compareTo_2 18 = .ok (.ifCond .ge 9, 3) := dk_156 0 9 (dk_at dksJ14_compareTo_2_0 18 rfl rfl)
theorem dJ14_compareTo_2_21 : decode cJ14_compareTo_2 21 = .ok (.iload_n 2, 1) := dk_28 (dk_at dksJ14_compareTo_2_0 21 rfl rfl)
theorem dJ14_compareTo_2_22 : decode cJ14_compareTo_2 22 = .ok (.iload_n 3, 1) := dk_29 (dk_at dksJ14_compareTo_2_0 22 rfl rfl)
theorem dJ14_compareTo_2_23 : decode cJ14_compareTo_2 23 = .ok (.isub, 1) := dk_100 (dk_at dksJ14_compareTo_2_0 23 rfl rfl)
theorem dJ14_compareTo_2_24 : decode cJ14_compareTo_2 24 = .ok (.goto 16, 3) := dk_167 0 16 (dk_at dksJ14_compareTo_2_1 0 rfl rfl)
theorem dJ14_compareTo_2_27 : decode cJ14_compareTo_2 27 = .ok (.aload_n 0, 1) := dk_42 (dk_at dksJ14_compareTo_2_1 3 rfl rfl)
theorem dJ14_compareTo_2_28 : decode cJ14_compareTo_2 28 = .ok (.iload 5, 2) := dk_21 5 (dk_at dksJ14_compareTo_2_1 4 rfl rfl)
theorem dJ14_compareTo_2_30 : decode cJ14_compareTo_2 30 = .ok (.invokestatic 50, 3) := dk_184 0 50 (dk_at dksJ14_compareTo_2_1 6 rfl rfl)
theorem dJ14_compareTo_2_33 : decode cJ14_compareTo_2 33 = .ok (.aload_n 1, 1) := dk_43 (dk_at dksJ14_compareTo_2_1 9 rfl rfl)
theorem dJ14_compareTo_2_34 : decode cJ14_compareTo_2 34 = .ok (.iload 5, 2) := dk_21 5 (dk_at dksJ14_compareTo_2_1 10 rfl rfl)
theorem dJ14_compareTo_2_36 : decode cJ14_compareTo_2 36 = .ok (.invokestatic 50, 3) := dk_184 0 50 (dk_at dksJ14_compareTo_2_1 12 rfl rfl)
theorem dJ14_compareTo_2_39 : decode cJ14_compareTo_2 39 = .ok (.isub, 1) := dk_100 (dk_at dksJ14_compareTo_2_1 15 rfl rfl)
theorem dJ14_compareTo_2_40 : decode cJ14_compareTo_2 40 = .ok (.ireturn, 1) := dk_172 (dk_at dksJ14_compareTo_2_1 16 rfl rfl)
abbrev cJ14_getChar : ByteArray := prog_43_method_44_code
def yJ14_getChar : MethodName := ⟨RJ14, "getChar", "([BI)C"⟩
def dkwJ14_getChar_0 : List UInt8 := [42, 27, 51, 17, 0, 255, 126, 146, 172]
abbrev dktJ14_getChar_0 : List UInt8 := dkwJ14_getChar_0 ++ []
theorem dksJ14_getChar_0 : cJ14_getChar.data.toList.drop 0 = dktJ14_getChar_0 := by decide +kernel
theorem dJ14_getChar_0 : decode cJ14_getChar 0 = .ok (.aload_n 0, 1) := dk_42 (dk_at dksJ14_getChar_0 0 rfl rfl)
theorem dJ14_getChar_1 : decode cJ14_getChar 1 = .ok (.iload_n 1, 1) := dk_27 (dk_at dksJ14_getChar_0 1 rfl rfl)
theorem dJ14_getChar_2 : decode cJ14_getChar 2 = .ok (.baload, 1) := dk_51 (dk_at dksJ14_getChar_0 2 rfl rfl)
theorem dJ14_getChar_3 : decode cJ14_getChar 3 = .ok (.sipush 255, 3) := dk_17 0 255 (dk_at dksJ14_getChar_0 3 rfl rfl)
theorem dJ14_getChar_6 : decode cJ14_getChar 6 = .ok (.iand, 1) := dk_126 (dk_at dksJ14_getChar_0 6 rfl rfl)
theorem dJ14_getChar_7 : decode cJ14_getChar 7 = .ok (.i2c, 1) := dk_146 (dk_at dksJ14_getChar_0 7 rfl rfl)
theorem dJ14_getChar_8 : decode cJ14_getChar 8 = .ok (.ireturn, 1) := dk_172 (dk_at dksJ14_getChar_0 8 rfl rfl)
abbrev cJ14_canEncode : ByteArray := prog_43_method_3_code
def yJ14_canEncode : MethodName := ⟨RJ14, "canEncode", "(C)Z"⟩
def dkwJ14_canEncode_0 : List UInt8 := [26, 17, 0, 255, 163, 0, 7, 4, 167, 0, 4, 3, 172]
abbrev dktJ14_canEncode_0 : List UInt8 := dkwJ14_canEncode_0 ++ []
theorem dksJ14_canEncode_0 : cJ14_canEncode.data.toList.drop 0 = dktJ14_canEncode_0 := by decide +kernel
theorem dJ14_canEncode_0 : decode cJ14_canEncode 0 = .ok (.iload_n 0, 1) := dk_26 (dk_at dksJ14_canEncode_0 0 rfl rfl)
theorem dJ14_canEncode_1 : decode cJ14_canEncode 1 = .ok (.sipush 255, 3) := dk_17 0 255 (dk_at dksJ14_canEncode_0 1 rfl rfl)
theorem dJ14_canEncode_4 : decode cJ14_canEncode 4 = .ok (.if_icmp .gt 7, 3) := dk_163 0 7 (dk_at dksJ14_canEncode_0 4 rfl rfl)
theorem dJ14_canEncode_7 : decode cJ14_canEncode 7 = .ok (.iconst 1, 1) := dk_4 (dk_at dksJ14_canEncode_0 7 rfl rfl)
theorem dJ14_canEncode_8 : decode cJ14_canEncode 8 = .ok (.goto 4, 3) := dk_167 0 4 (dk_at dksJ14_canEncode_0 8 rfl rfl)
theorem dJ14_canEncode_11 : decode cJ14_canEncode 11 = .ok (.iconst 0, 1) := dk_3 (dk_at dksJ14_canEncode_0 11 rfl rfl)
theorem dJ14_canEncode_12 : decode cJ14_canEncode 12 = .ok (.ireturn, 1) := dk_172 (dk_at dksJ14_canEncode_0 12 rfl rfl)
abbrev cJ14_indexOf : ByteArray := prog_43_method_22_code
def yJ14_indexOf : MethodName := ⟨RJ14, "indexOf", "([BIII)I"⟩
def dkwJ14_indexOf_1 : List UInt8 := [161, 0, 5, 2, 172, 42, 27, 28, 29, 184, 0, 95, 172]
abbrev dktJ14_indexOf_1 : List UInt8 := dkwJ14_indexOf_1 ++ []
def dkwJ14_indexOf_0 : List UInt8 := [27, 184, 0, 88, 154, 0, 5, 2, 172, 28, 3, 184, 0, 92, 61, 29, 42, 190, 184, 0, 38, 62, 28, 29]
abbrev dktJ14_indexOf_0 : List UInt8 := dkwJ14_indexOf_0 ++ dktJ14_indexOf_1
theorem dksJ14_indexOf_0 : cJ14_indexOf.data.toList.drop 0 = dktJ14_indexOf_0 := by decide +kernel
theorem dksJ14_indexOf_1 : cJ14_indexOf.data.toList.drop 24 = dktJ14_indexOf_1 := dk_seg dksJ14_indexOf_0 24 rfl rfl
theorem dJ14_indexOf_0 : decode cJ14_indexOf 0 = .ok (.iload_n 1, 1) := dk_27 (dk_at dksJ14_indexOf_0 0 rfl rfl)
theorem dJ14_indexOf_1 : decode cJ14_indexOf 1 = .ok (.invokestatic 88, 3) := dk_184 0 88 (dk_at dksJ14_indexOf_0 1 rfl rfl)
theorem dJ14_indexOf_4 : decode cJ14_indexOf 4 = .ok (.ifCond .ne 5, 3) := dk_154 0 5 (dk_at dksJ14_indexOf_0 4 rfl rfl)
theorem dJ14_indexOf_7 : decode cJ14_indexOf 7 = .ok (.iconst (-1), 1) := dk_2 (dk_at dksJ14_indexOf_0 7 rfl rfl)
theorem dJ14_indexOf_8 : decode cJ14_indexOf 8 = .ok (.ireturn, 1) := dk_172 (dk_at dksJ14_indexOf_0 8 rfl rfl)
theorem dJ14_indexOf_9 : decode cJ14_indexOf 9 = .ok (.iload_n 2, 1) := dk_28 (dk_at dksJ14_indexOf_0 9 rfl rfl)
theorem dJ14_indexOf_10 : decode cJ14_indexOf 10 = .ok (.iconst 0, 1) := dk_3 (dk_at dksJ14_indexOf_0 10 rfl rfl)
theorem dJ14_indexOf_11 : decode cJ14_indexOf 11 = .ok (.invokestatic 92, 3) := dk_184 0 92 (dk_at dksJ14_indexOf_0 11 rfl rfl)
theorem dJ14_indexOf_14 : decode cJ14_indexOf 14 = .ok (.istore_n 2, 1) := dk_61 (dk_at dksJ14_indexOf_0 14 rfl rfl)
theorem dJ14_indexOf_15 : decode cJ14_indexOf 15 = .ok (.iload_n 3, 1) := dk_29 (dk_at dksJ14_indexOf_0 15 rfl rfl)
theorem dJ14_indexOf_16 : decode cJ14_indexOf 16 = .ok (.aload_n 0, 1) := dk_42 (dk_at dksJ14_indexOf_0 16 rfl rfl)
theorem dJ14_indexOf_17 : decode cJ14_indexOf 17 = .ok (.arraylength, 1) := dk_190 (dk_at dksJ14_indexOf_0 17 rfl rfl)
theorem dJ14_indexOf_18 : decode cJ14_indexOf 18 = .ok (.invokestatic 38, 3) := dk_184 0 38 (dk_at dksJ14_indexOf_0 18 rfl rfl)
theorem dJ14_indexOf_21 : decode cJ14_indexOf 21 = .ok (.istore_n 3, 1) := dk_62 (dk_at dksJ14_indexOf_0 21 rfl rfl)
theorem dJ14_indexOf_22 : decode cJ14_indexOf 22 = .ok (.iload_n 2, 1) := dk_28 (dk_at dksJ14_indexOf_0 22 rfl rfl)
theorem dJ14_indexOf_23 : decode cJ14_indexOf 23 = .ok (.iload_n 3, 1) := dk_29 (dk_at dksJ14_indexOf_0 23 rfl rfl)
theorem dJ14_indexOf_24 : decode cJ14_indexOf 24 = .ok (.if_icmp .lt 5, 3) := dk_161 0 5 (dk_at dksJ14_indexOf_1 0 rfl rfl)
theorem dJ14_indexOf_27 : decode cJ14_indexOf 27 = .ok (.iconst (-1), 1) := dk_2 (dk_at dksJ14_indexOf_1 3 rfl rfl)
theorem dJ14_indexOf_28 : decode cJ14_indexOf 28 = .ok (.ireturn, 1) := dk_172 (dk_at dksJ14_indexOf_1 4 rfl rfl)
theorem dJ14_indexOf_29 : decode cJ14_indexOf 29 = .ok (.aload_n 0, 1) := dk_42 (dk_at dksJ14_indexOf_1 5 rfl rfl)
theorem dJ14_indexOf_30 : decode cJ14_indexOf 30 = .ok (.iload_n 1, 1) := dk_27 (dk_at dksJ14_indexOf_1 6 rfl rfl)
theorem dJ14_indexOf_31 : decode cJ14_indexOf 31 = .ok (.iload_n 2, 1) := dk_28 (dk_at dksJ14_indexOf_1 7 rfl rfl)
theorem dJ14_indexOf_32 : decode cJ14_indexOf 32 = .ok (.iload_n 3, 1) := dk_29 (dk_at dksJ14_indexOf_1 8 rfl rfl)
theorem dJ14_indexOf_33 : decode cJ14_indexOf 33 = .ok (.invokestatic 95, 3) := dk_184 0 95 (dk_at dksJ14_indexOf_1 9 rfl rfl)
theorem dJ14_indexOf_36 : decode cJ14_indexOf 36 = .ok (.ireturn, 1) := dk_172 (dk_at dksJ14_indexOf_1 12 rfl rfl)
abbrev cJ14_canEncode_2 : ByteArray := prog_43_method_4_code
def yJ14_canEncode_2 : MethodName := ⟨RJ14, "canEncode", "(I)Z"⟩
def dkwJ14_canEncode_2_0 : List UInt8 := [26, 155, 0, 14, 26, 17, 0, 255, 163, 0, 7, 4, 167, 0, 4, 3, 172]
abbrev dktJ14_canEncode_2_0 : List UInt8 := dkwJ14_canEncode_2_0 ++ []
theorem dksJ14_canEncode_2_0 : cJ14_canEncode_2.data.toList.drop 0 = dktJ14_canEncode_2_0 := by decide +kernel
theorem dJ14_canEncode_2_0 : decode cJ14_canEncode_2 0 = .ok (.iload_n 0, 1) := dk_26 (dk_at dksJ14_canEncode_2_0 0 rfl rfl)
theorem dJ14_canEncode_2_1 : decode cJ14_canEncode_2 1 = .ok (.ifCond .lt 14, 3) := dk_155 0 14 (dk_at dksJ14_canEncode_2_0 1 rfl rfl)
theorem dJ14_canEncode_2_4 : decode cJ14_canEncode_2 4 = .ok (.iload_n 0, 1) := dk_26 (dk_at dksJ14_canEncode_2_0 4 rfl rfl)
theorem dJ14_canEncode_2_5 : decode cJ14_canEncode_2 5 = .ok (.sipush 255, 3) := dk_17 0 255 (dk_at dksJ14_canEncode_2_0 5 rfl rfl)
theorem dJ14_canEncode_2_8 : decode cJ14_canEncode_2 8 = .ok (.if_icmp .gt 7, 3) := dk_163 0 7 (dk_at dksJ14_canEncode_2_0 8 rfl rfl)
theorem dJ14_canEncode_2_11 : decode cJ14_canEncode_2 11 = .ok (.iconst 1, 1) := dk_4 (dk_at dksJ14_canEncode_2_0 11 rfl rfl)
theorem dJ14_canEncode_2_12 : decode cJ14_canEncode_2 12 = .ok (.goto 4, 3) := dk_167 0 4 (dk_at dksJ14_canEncode_2_0 12 rfl rfl)
theorem dJ14_canEncode_2_15 : decode cJ14_canEncode_2 15 = .ok (.iconst 0, 1) := dk_3 (dk_at dksJ14_canEncode_2_0 15 rfl rfl)
theorem dJ14_canEncode_2_16 : decode cJ14_canEncode_2 16 = .ok (.ireturn, 1) := dk_172 (dk_at dksJ14_canEncode_2_0 16 rfl rfl)
abbrev cJ14_indexOfChar : ByteArray := prog_43_method_23_code
def yJ14_indexOfChar : MethodName := ⟨RJ14, "indexOfChar", "([BIII)I"⟩
def dkwJ14_indexOfChar_1 : List UInt8 := [172, 132, 5, 1, 167, 255, 235, 2, 172]
abbrev dktJ14_indexOfChar_1 : List UInt8 := dkwJ14_indexOfChar_1 ++ []
def dkwJ14_indexOfChar_0 : List UInt8 := [27, 145, 54, 4, 28, 54, 5, 21, 5, 29, 162, 0, 21, 42, 21, 5, 51, 21, 4, 160, 0, 6, 21, 5]
abbrev dktJ14_indexOfChar_0 : List UInt8 := dkwJ14_indexOfChar_0 ++ dktJ14_indexOfChar_1
theorem dksJ14_indexOfChar_0 : cJ14_indexOfChar.data.toList.drop 0 = dktJ14_indexOfChar_0 := by decide +kernel
theorem dksJ14_indexOfChar_1 : cJ14_indexOfChar.data.toList.drop 24 = dktJ14_indexOfChar_1 := dk_seg dksJ14_indexOfChar_0 24 rfl rfl
theorem dJ14_indexOfChar_0 : decode cJ14_indexOfChar 0 = .ok (.iload_n 1, 1) := dk_27 (dk_at dksJ14_indexOfChar_0 0 rfl rfl)
theorem dJ14_indexOfChar_1 : decode cJ14_indexOfChar 1 = .ok (.i2b, 1) := dk_145 (dk_at dksJ14_indexOfChar_0 1 rfl rfl)
theorem dJ14_indexOfChar_2 : decode cJ14_indexOfChar 2 = .ok (.istore 4, 2) := dk_54 4 (dk_at dksJ14_indexOfChar_0 2 rfl rfl)
theorem dJ14_indexOfChar_4 : decode cJ14_indexOfChar 4 = .ok (.iload_n 2, 1) := dk_28 (dk_at dksJ14_indexOfChar_0 4 rfl rfl)
theorem dJ14_indexOfChar_5 : decode cJ14_indexOfChar 5 = .ok (.istore 5, 2) := dk_54 5 (dk_at dksJ14_indexOfChar_0 5 rfl rfl)
theorem dJ14_indexOfChar_7 : decode cJ14_indexOfChar 7 = .ok (.iload 5, 2) := dk_21 5 (dk_at dksJ14_indexOfChar_0 7 rfl rfl)
theorem dJ14_indexOfChar_9 : decode cJ14_indexOfChar 9 = .ok (.iload_n 3, 1) := dk_29 (dk_at dksJ14_indexOfChar_0 9 rfl rfl)
theorem dJ14_indexOfChar_10 : decode cJ14_indexOfChar 10 = .ok (.if_icmp .ge 21, 3) := dk_162 0 21 (dk_at dksJ14_indexOfChar_0 10 rfl rfl)
theorem dJ14_indexOfChar_13 : decode cJ14_indexOfChar 13 = .ok (.aload_n 0, 1) := dk_42 (dk_at dksJ14_indexOfChar_0 13 rfl rfl)
theorem dJ14_indexOfChar_14 : decode cJ14_indexOfChar 14 = .ok (.iload 5, 2) := dk_21 5 (dk_at dksJ14_indexOfChar_0 14 rfl rfl)
theorem dJ14_indexOfChar_16 : decode cJ14_indexOfChar 16 = .ok (.baload, 1) := dk_51 (dk_at dksJ14_indexOfChar_0 16 rfl rfl)
theorem dJ14_indexOfChar_17 : decode cJ14_indexOfChar 17 = .ok (.iload 4, 2) := dk_21 4 (dk_at dksJ14_indexOfChar_0 17 rfl rfl)
theorem dJ14_indexOfChar_19 : decode cJ14_indexOfChar 19 = .ok (.if_icmp .ne 6, 3) := dk_160 0 6 (dk_at dksJ14_indexOfChar_0 19 rfl rfl)
theorem dJ14_indexOfChar_22 : decode cJ14_indexOfChar 22 = .ok (.iload 5, 2) := dk_21 5 (dk_at dksJ14_indexOfChar_0 22 rfl rfl)
theorem dJ14_indexOfChar_24 : decode cJ14_indexOfChar 24 = .ok (.ireturn, 1) := dk_172 (dk_at dksJ14_indexOfChar_1 0 rfl rfl)
theorem dJ14_indexOfChar_25 : decode cJ14_indexOfChar 25 = .ok (.iinc 5 1, 3) := dk_132 5 1 (dk_at dksJ14_indexOfChar_1 1 rfl rfl)
theorem dJ14_indexOfChar_28 : decode cJ14_indexOfChar 28 = .ok (.goto (-21), 3) := dk_167 255 235 (dk_at dksJ14_indexOfChar_1 4 rfl rfl)
theorem dJ14_indexOfChar_31 : decode cJ14_indexOfChar 31 = .ok (.iconst (-1), 1) := dk_2 (dk_at dksJ14_indexOfChar_1 7 rfl rfl)
theorem dJ14_indexOfChar_32 : decode cJ14_indexOfChar 32 = .ok (.ireturn, 1) := dk_172 (dk_at dksJ14_indexOfChar_1 8 rfl rfl)
abbrev cJ14_indexOf_2 : ByteArray := prog_43_method_24_code
def yJ14_indexOf_2 : MethodName := ⟨RJ14, "indexOf", "([B[B)I"⟩
def dkwJ14_indexOf_2_1 : List UInt8 := [172]
abbrev dktJ14_indexOf_2_1 : List UInt8 := dkwJ14_indexOf_2_1 ++ []
def dkwJ14_indexOf_2_0 : List UInt8 := [43, 190, 154, 0, 5, 3, 172, 42, 190, 154, 0, 5, 2, 172, 42, 42, 190, 43, 43, 190, 3, 184, 0, 99]
abbrev dktJ14_indexOf_2_0 : List UInt8 := dkwJ14_indexOf_2_0 ++ dktJ14_indexOf_2_1
theorem dksJ14_indexOf_2_0 : cJ14_indexOf_2.data.toList.drop 0 = dktJ14_indexOf_2_0 := by decide +kernel
theorem dksJ14_indexOf_2_1 : cJ14_indexOf_2.data.toList.drop 24 = dktJ14_indexOf_2_1 := dk_seg dksJ14_indexOf_2_0 24 rfl rfl
theorem dJ14_indexOf_2_0 : decode cJ14_indexOf_2 0 = .ok (.aload_n 1, 1) := dk_43 (dk_at dksJ14_indexOf_2_0 0 rfl rfl)
theorem dJ14_indexOf_2_1 : decode cJ14_indexOf_2 1 = .ok (.arraylength, 1) := dk_190 (dk_at dksJ14_indexOf_2_0 1 rfl rfl)
theorem dJ14_indexOf_2_2 : decode cJ14_indexOf_2 2 = .ok (.ifCond .ne 5, 3) := dk_154 0 5 (dk_at dksJ14_indexOf_2_0 2 rfl rfl)
theorem dJ14_indexOf_2_5 : decode cJ14_indexOf_2 5 = .ok (.iconst 0, 1) := dk_3 (dk_at dksJ14_indexOf_2_0 5 rfl rfl)
theorem dJ14_indexOf_2_6 : decode cJ14_indexOf_2 6 = .ok (.ireturn, 1) := dk_172 (dk_at dksJ14_indexOf_2_0 6 rfl rfl)
theorem dJ14_indexOf_2_7 : decode cJ14_indexOf_2 7 = .ok (.aload_n 0, 1) := dk_42 (dk_at dksJ14_indexOf_2_0 7 rfl rfl)
theorem dJ14_indexOf_2_8 : decode cJ14_indexOf_2 8 = .ok (.arraylength, 1) := dk_190 (dk_at dksJ14_indexOf_2_0 8 rfl rfl)
theorem dJ14_indexOf_2_9 : decode cJ14_indexOf_2 9 = .ok (.ifCond .ne 5, 3) := dk_154 0 5 (dk_at dksJ14_indexOf_2_0 9 rfl rfl)
theorem dJ14_indexOf_2_12 : decode cJ14_indexOf_2 12 = .ok (.iconst (-1), 1) := dk_2 (dk_at dksJ14_indexOf_2_0 12 rfl rfl)
theorem dJ14_indexOf_2_13 : decode cJ14_indexOf_2 13 = .ok (.ireturn, 1) := dk_172 (dk_at dksJ14_indexOf_2_0 13 rfl rfl)
theorem dJ14_indexOf_2_14 : decode cJ14_indexOf_2 14 = .ok (.aload_n 0, 1) := dk_42 (dk_at dksJ14_indexOf_2_0 14 rfl rfl)
theorem dJ14_indexOf_2_15 : decode cJ14_indexOf_2 15 = .ok (.aload_n 0, 1) := dk_42 (dk_at dksJ14_indexOf_2_0 15 rfl rfl)
theorem dJ14_indexOf_2_16 : decode cJ14_indexOf_2 16 = .ok (.arraylength, 1) := dk_190 (dk_at dksJ14_indexOf_2_0 16 rfl rfl)
theorem dJ14_indexOf_2_17 : decode cJ14_indexOf_2 17 = .ok (.aload_n 1, 1) := dk_43 (dk_at dksJ14_indexOf_2_0 17 rfl rfl)
theorem dJ14_indexOf_2_18 : decode cJ14_indexOf_2 18 = .ok (.aload_n 1, 1) := dk_43 (dk_at dksJ14_indexOf_2_0 18 rfl rfl)
theorem dJ14_indexOf_2_19 : decode cJ14_indexOf_2 19 = .ok (.arraylength, 1) := dk_190 (dk_at dksJ14_indexOf_2_0 19 rfl rfl)
theorem dJ14_indexOf_2_20 : decode cJ14_indexOf_2 20 = .ok (.iconst 0, 1) := dk_3 (dk_at dksJ14_indexOf_2_0 20 rfl rfl)
theorem dJ14_indexOf_2_21 : decode cJ14_indexOf_2 21 = .ok (.invokestatic 99, 3) := dk_184 0 99 (dk_at dksJ14_indexOf_2_0 21 rfl rfl)
theorem dJ14_indexOf_2_24 : decode cJ14_indexOf_2 24 = .ok (.ireturn, 1) := dk_172 (dk_at dksJ14_indexOf_2_1 0 rfl rfl)
abbrev cJ14_indexOf_3 : ByteArray := prog_43_method_25_code
def yJ14_indexOf_3 : MethodName := ⟨RJ14, "indexOf", "([BI[BII)I"⟩
def dkwJ14_indexOf_3_5 : List UInt8 := [167, 255, 154, 2, 172]
abbrev dktJ14_indexOf_3_5 : List UInt8 := dkwJ14_indexOf_3_5 ++ []
def dkwJ14_indexOf_3_4 : List UInt8 := [132, 8, 1, 132, 10, 1, 167, 255, 232, 21, 8, 21, 9, 160, 0, 6, 21, 7, 172, 132, 7, 1]
abbrev dktJ14_indexOf_3_4 : List UInt8 := dkwJ14_indexOf_3_4 ++ dktJ14_indexOf_3_5
def dkwJ14_indexOf_3_3 : List UInt8 := [100, 54, 9, 4, 54, 10, 21, 8, 21, 9, 162, 0, 23, 42, 21, 8, 51, 44, 21, 10, 51, 160, 0, 12]
abbrev dktJ14_indexOf_3_3 : List UInt8 := dkwJ14_indexOf_3_3 ++ dktJ14_indexOf_3_4
def dkwJ14_indexOf_3_2 : List UInt8 := [159, 0, 6, 167, 255, 237, 21, 7, 21, 6, 163, 0, 57, 21, 7, 4, 96, 54, 8, 21, 8, 29, 96, 4]
abbrev dktJ14_indexOf_3_2 : List UInt8 := dkwJ14_indexOf_3_2 ++ dktJ14_indexOf_3_3
def dkwJ14_indexOf_3_1 : List UInt8 := [51, 21, 5, 159, 0, 25, 132, 7, 1, 21, 7, 21, 6, 163, 0, 15, 42, 21, 7, 51, 21, 5]
abbrev dktJ14_indexOf_3_1 : List UInt8 := dkwJ14_indexOf_3_1 ++ dktJ14_indexOf_3_2
def dkwJ14_indexOf_3_0 : List UInt8 := [44, 3, 51, 54, 5, 27, 29, 100, 54, 6, 21, 4, 54, 7, 21, 7, 21, 6, 163, 0, 101, 42, 21, 7]
abbrev dktJ14_indexOf_3_0 : List UInt8 := dkwJ14_indexOf_3_0 ++ dktJ14_indexOf_3_1
theorem dksJ14_indexOf_3_0 : cJ14_indexOf_3.data.toList.drop 0 = dktJ14_indexOf_3_0 := by decide +kernel
theorem dksJ14_indexOf_3_1 : cJ14_indexOf_3.data.toList.drop 24 = dktJ14_indexOf_3_1 := dk_seg dksJ14_indexOf_3_0 24 rfl rfl
theorem dksJ14_indexOf_3_2 : cJ14_indexOf_3.data.toList.drop 46 = dktJ14_indexOf_3_2 := dk_seg dksJ14_indexOf_3_1 22 rfl rfl
theorem dksJ14_indexOf_3_3 : cJ14_indexOf_3.data.toList.drop 70 = dktJ14_indexOf_3_3 := dk_seg dksJ14_indexOf_3_2 24 rfl rfl
theorem dksJ14_indexOf_3_4 : cJ14_indexOf_3.data.toList.drop 94 = dktJ14_indexOf_3_4 := dk_seg dksJ14_indexOf_3_3 24 rfl rfl
theorem dksJ14_indexOf_3_5 : cJ14_indexOf_3.data.toList.drop 116 = dktJ14_indexOf_3_5 := dk_seg dksJ14_indexOf_3_4 22 rfl rfl
theorem dJ14_indexOf_3_0 : decode cJ14_indexOf_3 0 = .ok (.aload_n 2, 1) := dk_44 (dk_at dksJ14_indexOf_3_0 0 rfl rfl)
theorem dJ14_indexOf_3_1 : decode cJ14_indexOf_3 1 = .ok (.iconst 0, 1) := dk_3 (dk_at dksJ14_indexOf_3_0 1 rfl rfl)
theorem dJ14_indexOf_3_2 : decode cJ14_indexOf_3 2 = .ok (.baload, 1) := dk_51 (dk_at dksJ14_indexOf_3_0 2 rfl rfl)
theorem dJ14_indexOf_3_3 : decode cJ14_indexOf_3 3 = .ok (.istore 5, 2) := dk_54 5 (dk_at dksJ14_indexOf_3_0 3 rfl rfl)
theorem dJ14_indexOf_3_5 : decode cJ14_indexOf_3 5 = .ok (.iload_n 1, 1) := dk_27 (dk_at dksJ14_indexOf_3_0 5 rfl rfl)
theorem dJ14_indexOf_3_6 : decode cJ14_indexOf_3 6 = .ok (.iload_n 3, 1) := dk_29 (dk_at dksJ14_indexOf_3_0 6 rfl rfl)
theorem dJ14_indexOf_3_7 : decode cJ14_indexOf_3 7 = .ok (.isub, 1) := dk_100 (dk_at dksJ14_indexOf_3_0 7 rfl rfl)
theorem dJ14_indexOf_3_8 : decode cJ14_indexOf_3 8 = .ok (.istore 6, 2) := dk_54 6 (dk_at dksJ14_indexOf_3_0 8 rfl rfl)
theorem dJ14_indexOf_3_10 : decode cJ14_indexOf_3 10 = .ok (.iload 4, 2) := dk_21 4 (dk_at dksJ14_indexOf_3_0 10 rfl rfl)
theorem dJ14_indexOf_3_12 : decode cJ14_indexOf_3 12 = .ok (.istore 7, 2) := dk_54 7 (dk_at dksJ14_indexOf_3_0 12 rfl rfl)
theorem dJ14_indexOf_3_14 : decode cJ14_indexOf_3 14 = .ok (.iload 7, 2) := dk_21 7 (dk_at dksJ14_indexOf_3_0 14 rfl rfl)
theorem dJ14_indexOf_3_16 : decode cJ14_indexOf_3 16 = .ok (.iload 6, 2) := dk_21 6 (dk_at dksJ14_indexOf_3_0 16 rfl rfl)
theorem dJ14_indexOf_3_18 : decode cJ14_indexOf_3 18 = .ok (.if_icmp .gt 101, 3) := dk_163 0 101 (dk_at dksJ14_indexOf_3_0 18 rfl rfl)
theorem dJ14_indexOf_3_21 : decode cJ14_indexOf_3 21 = .ok (.aload_n 0, 1) := dk_42 (dk_at dksJ14_indexOf_3_0 21 rfl rfl)
theorem dJ14_indexOf_3_22 : decode cJ14_indexOf_3 22 = .ok (.iload 7, 2) := dk_21 7 (dk_at dksJ14_indexOf_3_0 22 rfl rfl)
theorem dJ14_indexOf_3_24 : decode cJ14_indexOf_3 24 = .ok (.baload, 1) := dk_51 (dk_at dksJ14_indexOf_3_1 0 rfl rfl)
theorem dJ14_indexOf_3_25 : decode cJ14_indexOf_3 25 = .ok (.iload 5, 2) := dk_21 5 (dk_at dksJ14_indexOf_3_1 1 rfl rfl)
theorem dJ14_indexOf_3_27 : decode cJ14_indexOf_3 27 = .ok (.if_icmp .eq 25, 3) := dk_159 0 25 (dk_at dksJ14_indexOf_3_1 3 rfl rfl)
theorem dJ14_indexOf_3_30 : decode cJ14_indexOf_3 30 = .ok (.iinc 7 1, 3) := dk_132 7 1 (dk_at dksJ14_indexOf_3_1 6 rfl rfl)
theorem dJ14_indexOf_3_33 : decode cJ14_indexOf_3 33 = .ok (.iload 7, 2) := dk_21 7 (dk_at dksJ14_indexOf_3_1 9 rfl rfl)
theorem dJ14_indexOf_3_35 : decode cJ14_indexOf_3 35 = .ok (.iload 6, 2) := dk_21 6 (dk_at dksJ14_indexOf_3_1 11 rfl rfl)
theorem dJ14_indexOf_3_37 : decode cJ14_indexOf_3 37 = .ok (.if_icmp .gt 15, 3) := dk_163 0 15 (dk_at dksJ14_indexOf_3_1 13 rfl rfl)
theorem dJ14_indexOf_3_40 : decode cJ14_indexOf_3 40 = .ok (.aload_n 0, 1) := dk_42 (dk_at dksJ14_indexOf_3_1 16 rfl rfl)
theorem dJ14_indexOf_3_41 : decode cJ14_indexOf_3 41 = .ok (.iload 7, 2) := dk_21 7 (dk_at dksJ14_indexOf_3_1 17 rfl rfl)
theorem dJ14_indexOf_3_43 : decode cJ14_indexOf_3 43 = .ok (.baload, 1) := dk_51 (dk_at dksJ14_indexOf_3_1 19 rfl rfl)
theorem dJ14_indexOf_3_44 : decode cJ14_indexOf_3 44 = .ok (.iload 5, 2) := dk_21 5 (dk_at dksJ14_indexOf_3_1 20 rfl rfl)
theorem dJ14_indexOf_3_46 : decode cJ14_indexOf_3 46 = .ok (.if_icmp .eq 6, 3) := dk_159 0 6 (dk_at dksJ14_indexOf_3_2 0 rfl rfl)
theorem dJ14_indexOf_3_49 : decode cJ14_indexOf_3 49 = .ok (.goto (-19), 3) := dk_167 255 237 (dk_at dksJ14_indexOf_3_2 3 rfl rfl)
theorem dJ14_indexOf_3_52 : decode cJ14_indexOf_3 52 = .ok (.iload 7, 2) := dk_21 7 (dk_at dksJ14_indexOf_3_2 6 rfl rfl)
theorem dJ14_indexOf_3_54 : decode cJ14_indexOf_3 54 = .ok (.iload 6, 2) := dk_21 6 (dk_at dksJ14_indexOf_3_2 8 rfl rfl)
theorem dJ14_indexOf_3_56 : decode cJ14_indexOf_3 56 = .ok (.if_icmp .gt 57, 3) := dk_163 0 57 (dk_at dksJ14_indexOf_3_2 10 rfl rfl)
theorem dJ14_indexOf_3_59 : decode cJ14_indexOf_3 59 = .ok (.iload 7, 2) := dk_21 7 (dk_at dksJ14_indexOf_3_2 13 rfl rfl)
theorem dJ14_indexOf_3_61 : decode cJ14_indexOf_3 61 = .ok (.iconst 1, 1) := dk_4 (dk_at dksJ14_indexOf_3_2 15 rfl rfl)
theorem dJ14_indexOf_3_62 : decode cJ14_indexOf_3 62 = .ok (.iadd, 1) := dk_96 (dk_at dksJ14_indexOf_3_2 16 rfl rfl)
theorem dJ14_indexOf_3_63 : decode cJ14_indexOf_3 63 = .ok (.istore 8, 2) := dk_54 8 (dk_at dksJ14_indexOf_3_2 17 rfl rfl)
theorem dJ14_indexOf_3_65 : decode cJ14_indexOf_3 65 = .ok (.iload 8, 2) := dk_21 8 (dk_at dksJ14_indexOf_3_2 19 rfl rfl)
theorem dJ14_indexOf_3_67 : decode cJ14_indexOf_3 67 = .ok (.iload_n 3, 1) := dk_29 (dk_at dksJ14_indexOf_3_2 21 rfl rfl)
theorem dJ14_indexOf_3_68 : decode cJ14_indexOf_3 68 = .ok (.iadd, 1) := dk_96 (dk_at dksJ14_indexOf_3_2 22 rfl rfl)
theorem dJ14_indexOf_3_69 : decode cJ14_indexOf_3 69 = .ok (.iconst 1, 1) := dk_4 (dk_at dksJ14_indexOf_3_2 23 rfl rfl)
theorem dJ14_indexOf_3_70 : decode cJ14_indexOf_3 70 = .ok (.isub, 1) := dk_100 (dk_at dksJ14_indexOf_3_3 0 rfl rfl)
theorem dJ14_indexOf_3_71 : decode cJ14_indexOf_3 71 = .ok (.istore 9, 2) := dk_54 9 (dk_at dksJ14_indexOf_3_3 1 rfl rfl)
theorem dJ14_indexOf_3_73 : decode cJ14_indexOf_3 73 = .ok (.iconst 1, 1) := dk_4 (dk_at dksJ14_indexOf_3_3 3 rfl rfl)
theorem dJ14_indexOf_3_74 : decode cJ14_indexOf_3 74 = .ok (.istore 10, 2) := dk_54 10 (dk_at dksJ14_indexOf_3_3 4 rfl rfl)
theorem dJ14_indexOf_3_76 : decode cJ14_indexOf_3 76 = .ok (.iload 8, 2) := dk_21 8 (dk_at dksJ14_indexOf_3_3 6 rfl rfl)
theorem dJ14_indexOf_3_78 : decode cJ14_indexOf_3 78 = .ok (.iload 9, 2) := dk_21 9 (dk_at dksJ14_indexOf_3_3 8 rfl rfl)
theorem dJ14_indexOf_3_80 : decode cJ14_indexOf_3 80 = .ok (.if_icmp .ge 23, 3) := dk_162 0 23 (dk_at dksJ14_indexOf_3_3 10 rfl rfl)
theorem dJ14_indexOf_3_83 : decode cJ14_indexOf_3 83 = .ok (.aload_n 0, 1) := dk_42 (dk_at dksJ14_indexOf_3_3 13 rfl rfl)
theorem dJ14_indexOf_3_84 : decode cJ14_indexOf_3 84 = .ok (.iload 8, 2) := dk_21 8 (dk_at dksJ14_indexOf_3_3 14 rfl rfl)
theorem dJ14_indexOf_3_86 : decode cJ14_indexOf_3 86 = .ok (.baload, 1) := dk_51 (dk_at dksJ14_indexOf_3_3 16 rfl rfl)
theorem dJ14_indexOf_3_87 : decode cJ14_indexOf_3 87 = .ok (.aload_n 2, 1) := dk_44 (dk_at dksJ14_indexOf_3_3 17 rfl rfl)
theorem dJ14_indexOf_3_88 : decode cJ14_indexOf_3 88 = .ok (.iload 10, 2) := dk_21 10 (dk_at dksJ14_indexOf_3_3 18 rfl rfl)
theorem dJ14_indexOf_3_90 : decode cJ14_indexOf_3 90 = .ok (.baload, 1) := dk_51 (dk_at dksJ14_indexOf_3_3 20 rfl rfl)
theorem dJ14_indexOf_3_91 : decode cJ14_indexOf_3 91 = .ok (.if_icmp .ne 12, 3) := dk_160 0 12 (dk_at dksJ14_indexOf_3_3 21 rfl rfl)
theorem dJ14_indexOf_3_94 : decode cJ14_indexOf_3 94 = .ok (.iinc 8 1, 3) := dk_132 8 1 (dk_at dksJ14_indexOf_3_4 0 rfl rfl)
theorem dJ14_indexOf_3_97 : decode cJ14_indexOf_3 97 = .ok (.iinc 10 1, 3) := dk_132 10 1 (dk_at dksJ14_indexOf_3_4 3 rfl rfl)
theorem dJ14_indexOf_3_100 : decode cJ14_indexOf_3 100 = .ok (.goto (-24), 3) := dk_167 255 232 (dk_at dksJ14_indexOf_3_4 6 rfl rfl)
theorem dJ14_indexOf_3_103 : decode cJ14_indexOf_3 103 = .ok (.iload 8, 2) := dk_21 8 (dk_at dksJ14_indexOf_3_4 9 rfl rfl)
theorem dJ14_indexOf_3_105 : decode cJ14_indexOf_3 105 = .ok (.iload 9, 2) := dk_21 9 (dk_at dksJ14_indexOf_3_4 11 rfl rfl)
theorem dJ14_indexOf_3_107 : decode cJ14_indexOf_3 107 = .ok (.if_icmp .ne 6, 3) := dk_160 0 6 (dk_at dksJ14_indexOf_3_4 13 rfl rfl)
theorem dJ14_indexOf_3_110 : decode cJ14_indexOf_3 110 = .ok (.iload 7, 2) := dk_21 7 (dk_at dksJ14_indexOf_3_4 16 rfl rfl)
theorem dJ14_indexOf_3_112 : decode cJ14_indexOf_3 112 = .ok (.ireturn, 1) := dk_172 (dk_at dksJ14_indexOf_3_4 18 rfl rfl)
theorem dJ14_indexOf_3_113 : decode cJ14_indexOf_3 113 = .ok (.iinc 7 1, 3) := dk_132 7 1 (dk_at dksJ14_indexOf_3_4 19 rfl rfl)
theorem dJ14_indexOf_3_116 : decode cJ14_indexOf_3 116 = .ok (.goto (-102), 3) := dk_167 255 154 (dk_at dksJ14_indexOf_3_5 0 rfl rfl)
theorem dJ14_indexOf_3_119 : decode cJ14_indexOf_3 119 = .ok (.iconst (-1), 1) := dk_2 (dk_at dksJ14_indexOf_3_5 3 rfl rfl)
theorem dJ14_indexOf_3_120 : decode cJ14_indexOf_3 120 = .ok (.ireturn, 1) := dk_172 (dk_at dksJ14_indexOf_3_5 4 rfl rfl)
theorem q113 : (Jvm.Cond.initialized "java/lang/StringLatin1") ∈ lw_all := lw_g (lw_at lw_m1 21 rfl) rfl
theorem q517 : (Jvm.Cond.static ({ cls := "java/lang/StringLatin1", name := "hashCode", desc := "([B)I" } : Jvm.MethodName)) ∈ lw_all := lw_g (lw_at lw_m2 185 rfl) rfl
theorem q518 : (Jvm.Cond.code ({ cls := "java/lang/StringLatin1", name := "hashCode", desc := "([B)I" } : Jvm.MethodName) prog_43_method_21_code (1 : Nat) (Option.some Jvm.ClassFile.FieldType.int)) ∈ lw_all := lw_g (lw_at lw_m2 186 rfl) rfl
theorem q519 : (Jvm.Cond.methodLink "java/lang/StringLatin1" (84 : Nat) ({ cls := "jdk/internal/util/ArraysSupport", name := "vectorizedHashCode", desc := "(Ljava/lang/Object;IIII)I" } : Jvm.MethodName)) ∈ lw_all := lw_g (lw_at lw_m2 187 rfl) rfl
theorem q614 : (Jvm.Cond.static ({ cls := "java/lang/StringLatin1", name := "equals", desc := "([B[B)Z" } : Jvm.MethodName)) ∈ lw_all := lw_g (lw_at lw_m3 42 rfl) rfl
theorem q615 : (Jvm.Cond.code ({ cls := "java/lang/StringLatin1", name := "equals", desc := "([B[B)Z" } : Jvm.MethodName) prog_43_method_13_code (3 : Nat) (Option.some Jvm.ClassFile.FieldType.boolean)) ∈ lw_all := lw_g (lw_at lw_m3 43 rfl) rfl
theorem q675 : (Jvm.Cond.static ({ cls := "java/lang/StringLatin1", name := "compareTo", desc := "([B[B)I" } : Jvm.MethodName)) ∈ lw_all := lw_g (lw_at lw_m3 103 rfl) rfl
theorem q676 : (Jvm.Cond.code ({ cls := "java/lang/StringLatin1", name := "compareTo", desc := "([B[B)I" } : Jvm.MethodName) prog_43_method_14_code (4 : Nat) (Option.some Jvm.ClassFile.FieldType.int)) ∈ lw_all := lw_g (lw_at lw_m3 104 rfl) rfl
theorem q677 : (Jvm.Cond.methodLink "java/lang/StringLatin1" (34 : Nat) ({ cls := "java/lang/StringLatin1", name := "compareTo", desc := "([B[BII)I" } : Jvm.MethodName)) ∈ lw_all := lw_g (lw_at lw_m3 105 rfl) rfl
theorem q678 : (Jvm.Cond.static ({ cls := "java/lang/StringLatin1", name := "compareTo", desc := "([B[BII)I" } : Jvm.MethodName)) ∈ lw_all := lw_g (lw_at lw_m3 106 rfl) rfl
theorem q679 : (Jvm.Cond.code ({ cls := "java/lang/StringLatin1", name := "compareTo", desc := "([B[BII)I" } : Jvm.MethodName) prog_43_method_15_code (6 : Nat) (Option.some Jvm.ClassFile.FieldType.int)) ∈ lw_all := lw_g (lw_at lw_m3 107 rfl) rfl
theorem q680 : (Jvm.Cond.methodLink "java/lang/StringLatin1" (38 : Nat) ({ cls := "java/lang/Math", name := "min", desc := "(II)I" } : Jvm.MethodName)) ∈ lw_all := lw_g (lw_at lw_m3 108 rfl) rfl
theorem q681 : (Jvm.Cond.methodLink "java/lang/StringLatin1" (44 : Nat) ({ cls := "jdk/internal/util/ArraysSupport", name := "mismatch", desc := "([B[BI)I" } : Jvm.MethodName)) ∈ lw_all := lw_g (lw_at lw_m3 109 rfl) rfl
theorem q785 : (Jvm.Cond.methodLink "java/lang/StringLatin1" (50 : Nat) ({ cls := "java/lang/StringLatin1", name := "getChar", desc := "([BI)C" } : Jvm.MethodName)) ∈ lw_all := lw_g (lw_at lw_m3 213 rfl) rfl
theorem q786 : (Jvm.Cond.static ({ cls := "java/lang/StringLatin1", name := "getChar", desc := "([BI)C" } : Jvm.MethodName)) ∈ lw_all := lw_g (lw_at lw_m3 214 rfl) rfl
theorem q787 : (Jvm.Cond.code ({ cls := "java/lang/StringLatin1", name := "getChar", desc := "([BI)C" } : Jvm.MethodName) prog_43_method_44_code (2 : Nat) (Option.some Jvm.ClassFile.FieldType.char)) ∈ lw_all := lw_g (lw_at lw_m3 215 rfl) rfl
theorem q796 : (Jvm.Cond.static ({ cls := "java/lang/StringLatin1", name := "compareToUTF16", desc := "([B[B)I" } : Jvm.MethodName)) ∈ lw_all := lw_g (lw_at lw_m3 224 rfl) rfl
theorem q797 : (Jvm.Cond.code ({ cls := "java/lang/StringLatin1", name := "compareToUTF16", desc := "([B[B)I" } : Jvm.MethodName) prog_43_method_16_code (4 : Nat) (Option.some Jvm.ClassFile.FieldType.int)) ∈ lw_all := lw_g (lw_at lw_m3 225 rfl) rfl
theorem q798 : (Jvm.Cond.methodLink "java/lang/StringLatin1" (54 : Nat) ({ cls := "java/lang/StringLatin1", name := "length", desc := "([B)I" } : Jvm.MethodName)) ∈ lw_all := lw_g (lw_at lw_m3 226 rfl) rfl
theorem q799 : (Jvm.Cond.static ({ cls := "java/lang/StringLatin1", name := "length", desc := "([B)I" } : Jvm.MethodName)) ∈ lw_all := lw_g (lw_at lw_m3 227 rfl) rfl
theorem q800 : (Jvm.Cond.code ({ cls := "java/lang/StringLatin1", name := "length", desc := "([B)I" } : Jvm.MethodName) prog_43_method_5_code (1 : Nat) (Option.some Jvm.ClassFile.FieldType.int)) ∈ lw_all := lw_g (lw_at lw_m3 228 rfl) rfl
theorem q801 : (Jvm.Cond.methodLink "java/lang/StringLatin1" (58 : Nat) ({ cls := "java/lang/StringUTF16", name := "length", desc := "([B)I" } : Jvm.MethodName)) ∈ lw_all := lw_g (lw_at lw_m3 229 rfl) rfl
theorem q802 : (Jvm.Cond.methodLink "java/lang/StringLatin1" (59 : Nat) ({ cls := "java/lang/StringLatin1", name := "compareToUTF16Values", desc := "([B[BII)I" } : Jvm.MethodName)) ∈ lw_all := lw_g (lw_at lw_m3 230 rfl) rfl
theorem q803 : (Jvm.Cond.static ({ cls := "java/lang/StringLatin1", name := "compareToUTF16Values", desc := "([B[BII)I" } : Jvm.MethodName)) ∈ lw_all := lw_g (lw_at lw_m3 231 rfl) rfl
theorem q804 : (Jvm.Cond.code ({ cls := "java/lang/StringLatin1", name := "compareToUTF16Values", desc := "([B[BII)I" } : Jvm.MethodName) prog_43_method_18_code (8 : Nat) (Option.some Jvm.ClassFile.FieldType.int)) ∈ lw_all := lw_g (lw_at lw_m3 232 rfl) rfl
theorem q805 : (Jvm.Cond.methodLink "java/lang/StringLatin1" (65 : Nat) ({ cls := "java/lang/StringUTF16", name := "getChar", desc := "([BI)C" } : Jvm.MethodName)) ∈ lw_all := lw_g (lw_at lw_m3 233 rfl) rfl
theorem q847 : (Jvm.Cond.static ({ cls := "java/lang/StringLatin1", name := "compareToUTF16", desc := "([B[BII)I" } : Jvm.MethodName)) ∈ lw_all := lw_g (lw_at lw_m4 35 rfl) rfl
theorem q848 : (Jvm.Cond.code ({ cls := "java/lang/StringLatin1", name := "compareToUTF16", desc := "([B[BII)I" } : Jvm.MethodName) prog_43_method_17_code (4 : Nat) (Option.some Jvm.ClassFile.FieldType.int)) ∈ lw_all := lw_g (lw_at lw_m4 36 rfl) rfl
theorem q849 : (Jvm.Cond.methodLink "java/lang/StringLatin1" (62 : Nat) ({ cls := "java/lang/String", name := "checkOffset", desc := "(II)V" } : Jvm.MethodName)) ∈ lw_all := lw_g (lw_at lw_m4 37 rfl) rfl
theorem q1176 : (Jvm.Cond.static ({ cls := "java/lang/StringLatin1", name := "canEncode", desc := "(C)Z" } : Jvm.MethodName)) ∈ lw_all := lw_g (lw_at lw_m5 124 rfl) rfl
theorem q1177 : (Jvm.Cond.code ({ cls := "java/lang/StringLatin1", name := "canEncode", desc := "(C)Z" } : Jvm.MethodName) prog_43_method_3_code (1 : Nat) (Option.some Jvm.ClassFile.FieldType.boolean)) ∈ lw_all := lw_g (lw_at lw_m5 125 rfl) rfl
theorem q1183 : (Jvm.Cond.static ({ cls := "java/lang/StringLatin1", name := "inflate", desc := "([BI[BII)V" } : Jvm.MethodName)) ∈ lw_all := lw_g (lw_at lw_m5 131 rfl) rfl
theorem q1184 : (Jvm.Cond.code ({ cls := "java/lang/StringLatin1", name := "inflate", desc := "([BI[BII)V" } : Jvm.MethodName) prog_43_method_50_code (5 : Nat) (Option.none : Option Jvm.ClassFile.FieldType)) ∈ lw_all := lw_g (lw_at lw_m5 132 rfl) rfl
theorem q1185 : (Jvm.Cond.methodLink "java/lang/StringLatin1" (240 : Nat) ({ cls := "java/lang/StringUTF16", name := "inflate", desc := "([BI[BII)V" } : Jvm.MethodName)) ∈ lw_all := lw_g (lw_at lw_m5 133 rfl) rfl
theorem q1285 : (Jvm.Cond.static ({ cls := "java/lang/StringLatin1", name := "indexOf", desc := "([BIII)I" } : Jvm.MethodName)) ∈ lw_all := lw_g (lw_at lw_m5 233 rfl) rfl
theorem q1286 : (Jvm.Cond.code ({ cls := "java/lang/StringLatin1", name := "indexOf", desc := "([BIII)I" } : Jvm.MethodName) prog_43_method_22_code (4 : Nat) (Option.some Jvm.ClassFile.FieldType.int)) ∈ lw_all := lw_g (lw_at lw_m5 234 rfl) rfl
theorem q1287 : (Jvm.Cond.methodLink "java/lang/StringLatin1" (88 : Nat) ({ cls := "java/lang/StringLatin1", name := "canEncode", desc := "(I)Z" } : Jvm.MethodName)) ∈ lw_all := lw_g (lw_at lw_m5 235 rfl) rfl
theorem q1288 : (Jvm.Cond.static ({ cls := "java/lang/StringLatin1", name := "canEncode", desc := "(I)Z" } : Jvm.MethodName)) ∈ lw_all := lw_g (lw_at lw_m5 236 rfl) rfl
theorem q1289 : (Jvm.Cond.code ({ cls := "java/lang/StringLatin1", name := "canEncode", desc := "(I)Z" } : Jvm.MethodName) prog_43_method_4_code (1 : Nat) (Option.some Jvm.ClassFile.FieldType.boolean)) ∈ lw_all := lw_g (lw_at lw_m5 237 rfl) rfl
theorem q1290 : (Jvm.Cond.methodLink "java/lang/StringLatin1" (92 : Nat) ({ cls := "java/lang/Math", name := "max", desc := "(II)I" } : Jvm.MethodName)) ∈ lw_all := lw_g (lw_at lw_m5 238 rfl) rfl
theorem q1291 : (Jvm.Cond.methodLink "java/lang/StringLatin1" (95 : Nat) ({ cls := "java/lang/StringLatin1", name := "indexOfChar", desc := "([BIII)I" } : Jvm.MethodName)) ∈ lw_all := lw_g (lw_at lw_m5 239 rfl) rfl
theorem q1292 : (Jvm.Cond.static ({ cls := "java/lang/StringLatin1", name := "indexOfChar", desc := "([BIII)I" } : Jvm.MethodName)) ∈ lw_all := lw_g (lw_at lw_m6 0 rfl) rfl
theorem q1293 : (Jvm.Cond.code ({ cls := "java/lang/StringLatin1", name := "indexOfChar", desc := "([BIII)I" } : Jvm.MethodName) prog_43_method_23_code (6 : Nat) (Option.some Jvm.ClassFile.FieldType.int)) ∈ lw_all := lw_g (lw_at lw_m6 1 rfl) rfl
theorem q1406 : (Jvm.Cond.static ({ cls := "java/lang/StringLatin1", name := "indexOf", desc := "([B[B)I" } : Jvm.MethodName)) ∈ lw_all := lw_g (lw_at lw_m6 114 rfl) rfl
theorem q1407 : (Jvm.Cond.code ({ cls := "java/lang/StringLatin1", name := "indexOf", desc := "([B[B)I" } : Jvm.MethodName) prog_43_method_24_code (2 : Nat) (Option.some Jvm.ClassFile.FieldType.int)) ∈ lw_all := lw_g (lw_at lw_m6 115 rfl) rfl
theorem q1408 : (Jvm.Cond.methodLink "java/lang/StringLatin1" (99 : Nat) ({ cls := "java/lang/StringLatin1", name := "indexOf", desc := "([BI[BII)I" } : Jvm.MethodName)) ∈ lw_all := lw_g (lw_at lw_m6 116 rfl) rfl
theorem q1409 : (Jvm.Cond.static ({ cls := "java/lang/StringLatin1", name := "indexOf", desc := "([BI[BII)I" } : Jvm.MethodName)) ∈ lw_all := lw_g (lw_at lw_m6 117 rfl) rfl
theorem q1410 : (Jvm.Cond.code ({ cls := "java/lang/StringLatin1", name := "indexOf", desc := "([BI[BII)I" } : Jvm.MethodName) prog_43_method_25_code (11 : Nat) (Option.some Jvm.ClassFile.FieldType.int)) ∈ lw_all := lw_g (lw_at lw_m6 118 rfl) rfl

/-! java/lang/StringUTF16 -/
set_option maxRecDepth 100000
def RJ15 : String := "java/lang/StringUTF16"
theorem q114 : (Jvm.Cond.initialized "java/lang/StringUTF16") ∈ lw_all := lw_g (lw_at lw_m1 22 rfl) rfl
theorem q542 : (Jvm.Cond.static ({ cls := "java/lang/StringUTF16", name := "getChar", desc := "([BI)C" } : Jvm.MethodName)) ∈ lw_all := lw_g (lw_at lw_m2 210 rfl) rfl
theorem q543 : (Jvm.Cond.code ({ cls := "java/lang/StringUTF16", name := "getChar", desc := "([BI)C" } : Jvm.MethodName) prog_44_method_5_code (2 : Nat) (Option.some Jvm.ClassFile.FieldType.char)) ∈ lw_all := lw_g (lw_at lw_m2 211 rfl) rfl
theorem q544 : (Jvm.Cond.fieldLink "java/lang/StringUTF16" (44 : Nat) "java/lang/StringUTF16" "$assertionsDisabled" "Z") ∈ lw_all := lw_g (lw_at lw_m2 212 rfl) rfl
theorem q545 : (Jvm.Cond.laysStatic "java/lang/StringUTF16" "$assertionsDisabled" "Z") ∈ lw_tbl := lw_at lw_m2 213 rfl
theorem q546 : (Jvm.Cond.methodLink "java/lang/StringUTF16" (48 : Nat) ({ cls := "java/lang/StringUTF16", name := "length", desc := "([B)I" } : Jvm.MethodName)) ∈ lw_all := lw_g (lw_at lw_m2 214 rfl) rfl
theorem q547 : (Jvm.Cond.static ({ cls := "java/lang/StringUTF16", name := "length", desc := "([B)I" } : Jvm.MethodName)) ∈ lw_all := lw_g (lw_at lw_m2 215 rfl) rfl
theorem q548 : (Jvm.Cond.code ({ cls := "java/lang/StringUTF16", name := "length", desc := "([B)I" } : Jvm.MethodName) prog_44_method_6_code (1 : Nat) (Option.some Jvm.ClassFile.FieldType.int)) ∈ lw_all := lw_g (lw_at lw_m2 216 rfl) rfl
theorem q549 : (Jvm.Cond.fieldLink "java/lang/StringUTF16" (59 : Nat) "java/lang/StringUTF16" "HI_BYTE_SHIFT" "I") ∈ lw_all := lw_g (lw_at lw_m2 217 rfl) rfl
theorem q550 : (Jvm.Cond.laysStatic "java/lang/StringUTF16" "HI_BYTE_SHIFT" "I") ∈ lw_tbl := lw_at lw_m2 218 rfl
theorem q551 : (Jvm.Cond.fieldLink "java/lang/StringUTF16" (63 : Nat) "java/lang/StringUTF16" "LO_BYTE_SHIFT" "I") ∈ lw_all := lw_g (lw_at lw_m2 219 rfl) rfl
theorem q552 : (Jvm.Cond.laysStatic "java/lang/StringUTF16" "LO_BYTE_SHIFT" "I") ∈ lw_tbl := lw_at lw_m2 220 rfl
theorem q569 : (Jvm.Cond.static ({ cls := "java/lang/StringUTF16", name := "hashCode", desc := "([B)I" } : Jvm.MethodName)) ∈ lw_all := lw_g (lw_at lw_m2 237 rfl) rfl
theorem q570 : (Jvm.Cond.code ({ cls := "java/lang/StringUTF16", name := "hashCode", desc := "([B)I" } : Jvm.MethodName) prog_44_method_39_code (1 : Nat) (Option.some Jvm.ClassFile.FieldType.int)) ∈ lw_all := lw_g (lw_at lw_m2 238 rfl) rfl
theorem q571 : (Jvm.Cond.methodLink "java/lang/StringUTF16" (71 : Nat) ({ cls := "java/lang/StringUTF16", name := "getChar", desc := "([BI)C" } : Jvm.MethodName)) ∈ lw_all := lw_g (lw_at lw_m2 239 rfl) rfl
theorem q572 : (Jvm.Cond.methodLink "java/lang/StringUTF16" (220 : Nat) ({ cls := "jdk/internal/util/ArraysSupport", name := "vectorizedHashCode", desc := "(Ljava/lang/Object;IIII)I" } : Jvm.MethodName)) ∈ lw_all := lw_g (lw_at lw_m3 0 rfl) rfl
theorem q789 : (Jvm.Cond.static ({ cls := "java/lang/StringUTF16", name := "compareTo", desc := "([B[B)I" } : Jvm.MethodName)) ∈ lw_all := lw_g (lw_at lw_m3 217 rfl) rfl
theorem q790 : (Jvm.Cond.code ({ cls := "java/lang/StringUTF16", name := "compareTo", desc := "([B[B)I" } : Jvm.MethodName) prog_44_method_29_code (4 : Nat) (Option.some Jvm.ClassFile.FieldType.int)) ∈ lw_all := lw_g (lw_at lw_m3 218 rfl) rfl
theorem q791 : (Jvm.Cond.methodLink "java/lang/StringUTF16" (176 : Nat) ({ cls := "java/lang/StringUTF16", name := "compareValues", desc := "([B[BII)I" } : Jvm.MethodName)) ∈ lw_all := lw_g (lw_at lw_m3 219 rfl) rfl
theorem q792 : (Jvm.Cond.static ({ cls := "java/lang/StringUTF16", name := "compareValues", desc := "([B[BII)I" } : Jvm.MethodName)) ∈ lw_all := lw_g (lw_at lw_m3 220 rfl) rfl
theorem q793 : (Jvm.Cond.code ({ cls := "java/lang/StringUTF16", name := "compareValues", desc := "([B[BII)I" } : Jvm.MethodName) prog_44_method_31_code (8 : Nat) (Option.some Jvm.ClassFile.FieldType.int)) ∈ lw_all := lw_g (lw_at lw_m3 221 rfl) rfl
theorem q794 : (Jvm.Cond.methodLink "java/lang/StringUTF16" (183 : Nat) ({ cls := "java/lang/Math", name := "min", desc := "(II)I" } : Jvm.MethodName)) ∈ lw_all := lw_g (lw_at lw_m3 222 rfl) rfl
theorem q807 : (Jvm.Cond.static ({ cls := "java/lang/StringUTF16", name := "compareToLatin1", desc := "([B[B)I" } : Jvm.MethodName)) ∈ lw_all := lw_g (lw_at lw_m3 235 rfl) rfl
theorem q808 : (Jvm.Cond.code ({ cls := "java/lang/StringUTF16", name := "compareToLatin1", desc := "([B[B)I" } : Jvm.MethodName) prog_44_method_32_code (2 : Nat) (Option.some Jvm.ClassFile.FieldType.int)) ∈ lw_all := lw_g (lw_at lw_m3 236 rfl) rfl
theorem q809 : (Jvm.Cond.methodLink "java/lang/StringUTF16" (189 : Nat) ({ cls := "java/lang/StringLatin1", name := "compareToUTF16", desc := "([B[B)I" } : Jvm.MethodName)) ∈ lw_all := lw_g (lw_at lw_m3 237 rfl) rfl
theorem q833 : (Jvm.Cond.static ({ cls := "java/lang/StringUTF16", name := "compareTo", desc := "([B[BII)I" } : Jvm.MethodName)) ∈ lw_all := lw_g (lw_at lw_m4 21 rfl) rfl
theorem q834 : (Jvm.Cond.code ({ cls := "java/lang/StringUTF16", name := "compareTo", desc := "([B[BII)I" } : Jvm.MethodName) prog_44_method_30_code (4 : Nat) (Option.some Jvm.ClassFile.FieldType.int)) ∈ lw_all := lw_g (lw_at lw_m4 22 rfl) rfl
theorem q835 : (Jvm.Cond.methodLink "java/lang/StringUTF16" (180 : Nat) ({ cls := "java/lang/StringUTF16", name := "checkOffset", desc := "(I[B)V" } : Jvm.MethodName)) ∈ lw_all := lw_g (lw_at lw_m4 23 rfl) rfl
theorem q836 : (Jvm.Cond.static ({ cls := "java/lang/StringUTF16", name := "checkOffset", desc := "(I[B)V" } : Jvm.MethodName)) ∈ lw_all := lw_g (lw_at lw_m4 24 rfl) rfl
theorem q837 : (Jvm.Cond.code ({ cls := "java/lang/StringUTF16", name := "checkOffset", desc := "(I[B)V" } : Jvm.MethodName) prog_44_method_92_code (2 : Nat) (Option.none : Option Jvm.ClassFile.FieldType)) ∈ lw_all := lw_g (lw_at lw_m4 25 rfl) rfl
theorem q838 : (Jvm.Cond.methodLink "java/lang/StringUTF16" (417 : Nat) ({ cls := "java/lang/String", name := "checkOffset", desc := "(II)V" } : Jvm.MethodName)) ∈ lw_all := lw_g (lw_at lw_m4 26 rfl) rfl
theorem q851 : (Jvm.Cond.static ({ cls := "java/lang/StringUTF16", name := "compareToLatin1", desc := "([B[BII)I" } : Jvm.MethodName)) ∈ lw_all := lw_g (lw_at lw_m4 39 rfl) rfl
theorem q852 : (Jvm.Cond.code ({ cls := "java/lang/StringUTF16", name := "compareToLatin1", desc := "([B[BII)I" } : Jvm.MethodName) prog_44_method_33_code (4 : Nat) (Option.some Jvm.ClassFile.FieldType.int)) ∈ lw_all := lw_g (lw_at lw_m4 40 rfl) rfl
theorem q853 : (Jvm.Cond.methodLink "java/lang/StringUTF16" (193 : Nat) ({ cls := "java/lang/StringLatin1", name := "compareToUTF16", desc := "([B[BII)I" } : Jvm.MethodName)) ∈ lw_all := lw_g (lw_at lw_m4 41 rfl) rfl
theorem q1130 : (Jvm.Cond.static ({ cls := "java/lang/StringUTF16", name := "newBytesFor", desc := "(I)[B" } : Jvm.MethodName)) ∈ lw_all := lw_g (lw_at lw_m5 78 rfl) rfl
theorem q1131 : (Jvm.Cond.code ({ cls := "java/lang/StringUTF16", name := "newBytesFor", desc := "(I)[B" } : Jvm.MethodName) prog_44_method_2_code (1 : Nat) (Option.some (Jvm.ClassFile.FieldType.array Jvm.ClassFile.FieldType.byte))) ∈ lw_all := lw_g (lw_at lw_m5 79 rfl) rfl
theorem q1132 : (Jvm.Cond.methodLink "java/lang/StringUTF16" (11 : Nat) ({ cls := "java/lang/StringUTF16", name := "newBytesLength", desc := "(I)I" } : Jvm.MethodName)) ∈ lw_all := lw_g (lw_at lw_m5 80 rfl) rfl
theorem q1133 : (Jvm.Cond.static ({ cls := "java/lang/StringUTF16", name := "newBytesLength", desc := "(I)I" } : Jvm.MethodName)) ∈ lw_all := lw_g (lw_at lw_m5 81 rfl) rfl
theorem q1134 : (Jvm.Cond.code ({ cls := "java/lang/StringUTF16", name := "newBytesLength", desc := "(I)I" } : Jvm.MethodName) prog_44_method_3_code (1 : Nat) (Option.some Jvm.ClassFile.FieldType.int)) ∈ lw_all := lw_g (lw_at lw_m5 82 rfl) rfl
theorem q1135 : (Jvm.Cond.constant "java/lang/StringUTF16" (20 : Nat) (1073741823 : Int32)) ∈ lw_all := lw_g (lw_at lw_m5 83 rfl) rfl
theorem q1186 : (Jvm.Cond.static ({ cls := "java/lang/StringUTF16", name := "inflate", desc := "([BI[BII)V" } : Jvm.MethodName)) ∈ lw_all := lw_g (lw_at lw_m5 134 rfl) rfl
theorem q1187 : (Jvm.Cond.code ({ cls := "java/lang/StringUTF16", name := "inflate", desc := "([BI[BII)V" } : Jvm.MethodName) prog_44_method_86_code (6 : Nat) (Option.none : Option Jvm.ClassFile.FieldType)) ∈ lw_all := lw_g (lw_at lw_m5 135 rfl) rfl
theorem q1188 : (Jvm.Cond.methodLink "java/lang/StringUTF16" (173 : Nat) ({ cls := "java/lang/StringUTF16", name := "checkBoundsOffCount", desc := "(II[B)V" } : Jvm.MethodName)) ∈ lw_all := lw_g (lw_at lw_m5 136 rfl) rfl
theorem q1189 : (Jvm.Cond.static ({ cls := "java/lang/StringUTF16", name := "checkBoundsOffCount", desc := "(II[B)V" } : Jvm.MethodName)) ∈ lw_all := lw_g (lw_at lw_m5 137 rfl) rfl
theorem q1190 : (Jvm.Cond.code ({ cls := "java/lang/StringUTF16", name := "checkBoundsOffCount", desc := "(II[B)V" } : Jvm.MethodName) prog_44_method_94_code (3 : Nat) (Option.none : Option Jvm.ClassFile.FieldType)) ∈ lw_all := lw_g (lw_at lw_m5 138 rfl) rfl
theorem q1191 : (Jvm.Cond.methodLink "java/lang/StringUTF16" (419 : Nat) ({ cls := "java/lang/String", name := "checkBoundsOffCount", desc := "(III)I" } : Jvm.MethodName)) ∈ lw_all := lw_g (lw_at lw_m5 139 rfl) rfl
theorem q1197 : (Jvm.Cond.methodLink "java/lang/StringUTF16" (111 : Nat) ({ cls := "java/lang/StringUTF16", name := "putChar", desc := "([BII)V" } : Jvm.MethodName)) ∈ lw_all := lw_g (lw_at lw_m5 145 rfl) rfl
theorem q1198 : (Jvm.Cond.static ({ cls := "java/lang/StringUTF16", name := "putChar", desc := "([BII)V" } : Jvm.MethodName)) ∈ lw_all := lw_g (lw_at lw_m5 146 rfl) rfl
theorem q1199 : (Jvm.Cond.code ({ cls := "java/lang/StringUTF16", name := "putChar", desc := "([BII)V" } : Jvm.MethodName) prog_44_method_4_code (3 : Nat) (Option.none : Option Jvm.ClassFile.FieldType)) ∈ lw_all := lw_g (lw_at lw_m5 147 rfl) rfl
theorem q1201 : (Jvm.Cond.static ({ cls := "java/lang/StringUTF16", name := "putCharSB", desc := "([BII)V" } : Jvm.MethodName)) ∈ lw_all := lw_g (lw_at lw_m5 149 rfl) rfl
theorem q1202 : (Jvm.Cond.code ({ cls := "java/lang/StringUTF16", name := "putCharSB", desc := "([BII)V" } : Jvm.MethodName) prog_44_method_71_code (3 : Nat) (Option.none : Option Jvm.ClassFile.FieldType)) ∈ lw_all := lw_g (lw_at lw_m5 150 rfl) rfl
theorem q1203 : (Jvm.Cond.methodLink "java/lang/StringUTF16" (67 : Nat) ({ cls := "java/lang/StringUTF16", name := "checkIndex", desc := "(I[B)V" } : Jvm.MethodName)) ∈ lw_all := lw_g (lw_at lw_m5 151 rfl) rfl
theorem q1204 : (Jvm.Cond.static ({ cls := "java/lang/StringUTF16", name := "checkIndex", desc := "(I[B)V" } : Jvm.MethodName)) ∈ lw_all := lw_g (lw_at lw_m5 152 rfl) rfl
theorem q1205 : (Jvm.Cond.code ({ cls := "java/lang/StringUTF16", name := "checkIndex", desc := "(I[B)V" } : Jvm.MethodName) prog_44_method_91_code (2 : Nat) (Option.none : Option Jvm.ClassFile.FieldType)) ∈ lw_all := lw_g (lw_at lw_m5 153 rfl) rfl
theorem q1206 : (Jvm.Cond.methodLink "java/lang/StringUTF16" (414 : Nat) ({ cls := "java/lang/String", name := "checkIndex", desc := "(II)V" } : Jvm.MethodName)) ∈ lw_all := lw_g (lw_at lw_m5 154 rfl) rfl
theorem q1249 : (Jvm.Cond.static ({ cls := "java/lang/StringUTF16", name := "compress", desc := "([BII)[B" } : Jvm.MethodName)) ∈ lw_all := lw_g (lw_at lw_m5 197 rfl) rfl
theorem q1250 : (Jvm.Cond.code ({ cls := "java/lang/StringUTF16", name := "compress", desc := "([BII)[B" } : Jvm.MethodName) prog_44_method_17_code (6 : Nat) (Option.some (Jvm.ClassFile.FieldType.array Jvm.ClassFile.FieldType.byte))) ∈ lw_all := lw_g (lw_at lw_m5 198 rfl) rfl
theorem q1251 : (Jvm.Cond.methodLink "java/lang/StringUTF16" (123 : Nat) ({ cls := "java/lang/StringUTF16", name := "compress", desc := "([BI[BII)I" } : Jvm.MethodName)) ∈ lw_all := lw_g (lw_at lw_m5 199 rfl) rfl
theorem q1252 : (Jvm.Cond.static ({ cls := "java/lang/StringUTF16", name := "compress", desc := "([BI[BII)I" } : Jvm.MethodName)) ∈ lw_all := lw_g (lw_at lw_m5 200 rfl) rfl
theorem q1253 : (Jvm.Cond.code ({ cls := "java/lang/StringUTF16", name := "compress", desc := "([BI[BII)I" } : Jvm.MethodName) prog_44_method_22_code (7 : Nat) (Option.some Jvm.ClassFile.FieldType.int)) ∈ lw_all := lw_g (lw_at lw_m5 201 rfl) rfl
theorem q1254 : (Jvm.Cond.methodLink "java/lang/StringUTF16" (126 : Nat) ({ cls := "java/util/Arrays", name := "copyOfRange", desc := "([BII)[B" } : Jvm.MethodName)) ∈ lw_all := lw_g (lw_at lw_m5 202 rfl) rfl
theorem q1256 : (Jvm.Cond.static ({ cls := "java/lang/StringUTF16", name := "coderFromArrayLen", desc := "([BI)B" } : Jvm.MethodName)) ∈ lw_all := lw_g (lw_at lw_m5 204 rfl) rfl
theorem q1257 : (Jvm.Cond.code ({ cls := "java/lang/StringUTF16", name := "coderFromArrayLen", desc := "([BI)B" } : Jvm.MethodName) prog_44_method_15_code (2 : Nat) (Option.some Jvm.ClassFile.FieldType.byte)) ∈ lw_all := lw_g (lw_at lw_m5 205 rfl) rfl
theorem q1295 : (Jvm.Cond.static ({ cls := "java/lang/StringUTF16", name := "indexOf", desc := "([BIII)I" } : Jvm.MethodName)) ∈ lw_all := lw_g (lw_at lw_m6 3 rfl) rfl
theorem q1296 : (Jvm.Cond.code ({ cls := "java/lang/StringUTF16", name := "indexOf", desc := "([BIII)I" } : Jvm.MethodName) prog_44_method_40_code (4 : Nat) (Option.some Jvm.ClassFile.FieldType.int)) ∈ lw_all := lw_g (lw_at lw_m6 4 rfl) rfl
theorem q1297 : (Jvm.Cond.methodLink "java/lang/StringUTF16" (224 : Nat) ({ cls := "java/lang/Math", name := "max", desc := "(II)I" } : Jvm.MethodName)) ∈ lw_all := lw_g (lw_at lw_m6 5 rfl) rfl
theorem q1298 : (Jvm.Cond.constant "java/lang/StringUTF16" (227 : Nat) (65536 : Int32)) ∈ lw_all := lw_g (lw_at lw_m6 6 rfl) rfl
theorem q1299 : (Jvm.Cond.methodLink "java/lang/StringUTF16" (228 : Nat) ({ cls := "java/lang/StringUTF16", name := "indexOfChar", desc := "([BIII)I" } : Jvm.MethodName)) ∈ lw_all := lw_g (lw_at lw_m6 7 rfl) rfl
theorem q1300 : (Jvm.Cond.static ({ cls := "java/lang/StringUTF16", name := "indexOfChar", desc := "([BIII)I" } : Jvm.MethodName)) ∈ lw_all := lw_g (lw_at lw_m6 8 rfl) rfl
theorem q1301 : (Jvm.Cond.code ({ cls := "java/lang/StringUTF16", name := "indexOfChar", desc := "([BIII)I" } : Jvm.MethodName) prog_44_method_47_code (4 : Nat) (Option.some Jvm.ClassFile.FieldType.int)) ∈ lw_all := lw_g (lw_at lw_m6 9 rfl) rfl
theorem q1302 : (Jvm.Cond.methodLink "java/lang/StringUTF16" (96 : Nat) ({ cls := "java/lang/StringUTF16", name := "checkBoundsBeginEnd", desc := "(II[B)V" } : Jvm.MethodName)) ∈ lw_all := lw_g (lw_at lw_m6 10 rfl) rfl
theorem q1303 : (Jvm.Cond.static ({ cls := "java/lang/StringUTF16", name := "checkBoundsBeginEnd", desc := "(II[B)V" } : Jvm.MethodName)) ∈ lw_all := lw_g (lw_at lw_m6 11 rfl) rfl
theorem q1304 : (Jvm.Cond.code ({ cls := "java/lang/StringUTF16", name := "checkBoundsBeginEnd", desc := "(II[B)V" } : Jvm.MethodName) prog_44_method_93_code (3 : Nat) (Option.none : Option Jvm.ClassFile.FieldType)) ∈ lw_all := lw_g (lw_at lw_m6 12 rfl) rfl
theorem q1305 : (Jvm.Cond.methodLink "java/lang/StringUTF16" (241 : Nat) ({ cls := "java/lang/String", name := "checkBoundsBeginEnd", desc := "(III)V" } : Jvm.MethodName)) ∈ lw_all := lw_g (lw_at lw_m6 13 rfl) rfl
theorem q1308 : (Jvm.Cond.methodLink "java/lang/StringUTF16" (244 : Nat) ({ cls := "java/lang/StringUTF16", name := "indexOfCharUnsafe", desc := "([BIII)I" } : Jvm.MethodName)) ∈ lw_all := lw_g (lw_at lw_m6 16 rfl) rfl
theorem q1309 : (Jvm.Cond.static ({ cls := "java/lang/StringUTF16", name := "indexOfCharUnsafe", desc := "([BIII)I" } : Jvm.MethodName)) ∈ lw_all := lw_g (lw_at lw_m6 17 rfl) rfl
theorem q1310 : (Jvm.Cond.code ({ cls := "java/lang/StringUTF16", name := "indexOfCharUnsafe", desc := "([BIII)I" } : Jvm.MethodName) prog_44_method_48_code (5 : Nat) (Option.some Jvm.ClassFile.FieldType.int)) ∈ lw_all := lw_g (lw_at lw_m6 18 rfl) rfl
theorem q1311 : (Jvm.Cond.methodLink "java/lang/StringUTF16" (232 : Nat) ({ cls := "java/lang/StringUTF16", name := "indexOfSupplementary", desc := "([BIII)I" } : Jvm.MethodName)) ∈ lw_all := lw_g (lw_at lw_m6 19 rfl) rfl
theorem q1312 : (Jvm.Cond.static ({ cls := "java/lang/StringUTF16", name := "indexOfSupplementary", desc := "([BIII)I" } : Jvm.MethodName)) ∈ lw_all := lw_g (lw_at lw_m6 20 rfl) rfl
theorem q1313 : (Jvm.Cond.code ({ cls := "java/lang/StringUTF16", name := "indexOfSupplementary", desc := "([BIII)I" } : Jvm.MethodName) prog_44_method_49_code (7 : Nat) (Option.some Jvm.ClassFile.FieldType.int)) ∈ lw_all := lw_g (lw_at lw_m6 21 rfl) rfl
theorem q1314 : (Jvm.Cond.methodLink "java/lang/StringUTF16" (164 : Nat) ({ cls := "java/lang/Character", name := "isValidCodePoint", desc := "(I)Z" } : Jvm.MethodName)) ∈ lw_all := lw_g (lw_at lw_m6 22 rfl) rfl
theorem q1317 : (Jvm.Cond.methodLink "java/lang/StringUTF16" (157 : Nat) ({ cls := "java/lang/Character", name := "highSurrogate", desc := "(I)C" } : Jvm.MethodName)) ∈ lw_all := lw_g (lw_at lw_m6 25 rfl) rfl
theorem q1321 : (Jvm.Cond.methodLink "java/lang/StringUTF16" (161 : Nat) ({ cls := "java/lang/Character", name := "lowSurrogate", desc := "(I)C" } : Jvm.MethodName)) ∈ lw_all := lw_g (lw_at lw_m6 29 rfl) rfl
theorem q1365 : (Jvm.Cond.static ({ cls := "java/lang/StringUTF16", name := "putCharsAt", desc := "([BICCCC)I" } : Jvm.MethodName)) ∈ lw_all := lw_g (lw_at lw_m6 73 rfl) rfl
theorem q1366 : (Jvm.Cond.code ({ cls := "java/lang/StringUTF16", name := "putCharsAt", desc := "([BICCCC)I" } : Jvm.MethodName) prog_44_method_81_code (7 : Nat) (Option.some Jvm.ClassFile.FieldType.int)) ∈ lw_all := lw_g (lw_at lw_m6 74 rfl) rfl
theorem q1412 : (Jvm.Cond.static ({ cls := "java/lang/StringUTF16", name := "indexOf", desc := "([B[B)I" } : Jvm.MethodName)) ∈ lw_all := lw_g (lw_at lw_m6 120 rfl) rfl
theorem q1413 : (Jvm.Cond.code ({ cls := "java/lang/StringUTF16", name := "indexOf", desc := "([B[B)I" } : Jvm.MethodName) prog_44_method_41_code (2 : Nat) (Option.some Jvm.ClassFile.FieldType.int)) ∈ lw_all := lw_g (lw_at lw_m6 121 rfl) rfl
theorem q1414 : (Jvm.Cond.methodLink "java/lang/StringUTF16" (235 : Nat) ({ cls := "java/lang/StringUTF16", name := "indexOfUnsafe", desc := "([BI[BII)I" } : Jvm.MethodName)) ∈ lw_all := lw_g (lw_at lw_m6 122 rfl) rfl
theorem q1415 : (Jvm.Cond.static ({ cls := "java/lang/StringUTF16", name := "indexOfUnsafe", desc := "([BI[BII)I" } : Jvm.MethodName)) ∈ lw_all := lw_g (lw_at lw_m6 123 rfl) rfl
theorem q1416 : (Jvm.Cond.code ({ cls := "java/lang/StringUTF16", name := "indexOfUnsafe", desc := "([BI[BII)I" } : Jvm.MethodName) prog_44_method_43_code (11 : Nat) (Option.some Jvm.ClassFile.FieldType.int)) ∈ lw_all := lw_g (lw_at lw_m6 124 rfl) rfl
theorem q1418 : (Jvm.Cond.static ({ cls := "java/lang/StringUTF16", name := "indexOfLatin1", desc := "([B[B)I" } : Jvm.MethodName)) ∈ lw_all := lw_g (lw_at lw_m6 126 rfl) rfl
theorem q1419 : (Jvm.Cond.code ({ cls := "java/lang/StringUTF16", name := "indexOfLatin1", desc := "([B[B)I" } : Jvm.MethodName) prog_44_method_44_code (2 : Nat) (Option.some Jvm.ClassFile.FieldType.int)) ∈ lw_all := lw_g (lw_at lw_m6 127 rfl) rfl
theorem q1420 : (Jvm.Cond.methodLink "java/lang/StringUTF16" (238 : Nat) ({ cls := "java/lang/StringUTF16", name := "indexOfLatin1Unsafe", desc := "([BI[BII)I" } : Jvm.MethodName)) ∈ lw_all := lw_g (lw_at lw_m6 128 rfl) rfl
theorem q1421 : (Jvm.Cond.static ({ cls := "java/lang/StringUTF16", name := "indexOfLatin1Unsafe", desc := "([BI[BII)I" } : Jvm.MethodName)) ∈ lw_all := lw_g (lw_at lw_m6 129 rfl) rfl
theorem q1422 : (Jvm.Cond.code ({ cls := "java/lang/StringUTF16", name := "indexOfLatin1Unsafe", desc := "([BI[BII)I" } : Jvm.MethodName) prog_44_method_46_code (11 : Nat) (Option.some Jvm.ClassFile.FieldType.int)) ∈ lw_all := lw_g (lw_at lw_m6 130 rfl) rfl

/-! jdk/internal/misc/Unsafe -/
set_option maxRecDepth 100000
def RJ16 : String := "jdk/internal/misc/Unsafe"
abbrev cJ16_getLongUnaligned : ByteArray := prog_67_method_334_code
def yJ16_getLongUnaligned : MethodName := ⟨RJ16, "getLongUnaligned", "(Ljava/lang/Object;J)J"⟩
def dkwJ16_getLongUnaligned_7 : List UInt8 := [182, 0, 39, 184, 2, 197, 173]
abbrev dktJ16_getLongUnaligned_7 : List UInt8 := dkwJ16_getLongUnaligned_7 ++ []
def dkwJ16_getLongUnaligned_6 : List UInt8 := [20, 2, 195, 97, 182, 0, 39, 42, 43, 32, 20, 2, 190, 97, 182, 0, 39, 42, 43, 32, 20, 2, 184, 97]
abbrev dktJ16_getLongUnaligned_6 : List UInt8 := dkwJ16_getLongUnaligned_6 ++ dktJ16_getLongUnaligned_7
def dkwJ16_getLongUnaligned_5 : List UInt8 := [43, 32, 20, 1, 93, 97, 182, 0, 39, 42, 43, 32, 20, 0, 205, 97, 182, 0, 39, 42, 43, 32]
abbrev dktJ16_getLongUnaligned_5 : List UInt8 := dkwJ16_getLongUnaligned_5 ++ dktJ16_getLongUnaligned_6
def dkwJ16_getLongUnaligned_4 : List UInt8 := [43, 32, 182, 0, 39, 42, 43, 32, 10, 97, 182, 0, 39, 42, 43, 32, 20, 0, 203, 97, 182, 0, 39, 42]
abbrev dktJ16_getLongUnaligned_4 : List UInt8 := dkwJ16_getLongUnaligned_4 ++ dktJ16_getLongUnaligned_5
def dkwJ16_getLongUnaligned_3 : List UInt8 := [43, 32, 20, 0, 205, 97, 182, 0, 47, 42, 43, 32, 20, 2, 190, 97, 182, 0, 47, 184, 2, 192, 173, 42]
abbrev dktJ16_getLongUnaligned_3 : List UInt8 := dkwJ16_getLongUnaligned_3 ++ dktJ16_getLongUnaligned_4
def dkwJ16_getLongUnaligned_2 : List UInt8 := [10, 127, 9, 148, 154, 0, 43, 42, 43, 32, 182, 0, 47, 42, 43, 32, 20, 0, 203, 97, 182, 0, 47, 42]
abbrev dktJ16_getLongUnaligned_2 : List UInt8 := dkwJ16_getLongUnaligned_2 ++ dktJ16_getLongUnaligned_3
def dkwJ16_getLongUnaligned_1 : List UInt8 := [154, 0, 23, 42, 43, 32, 182, 0, 17, 42, 43, 32, 20, 0, 205, 97, 182, 0, 17, 184, 2, 186, 173, 32]
abbrev dktJ16_getLongUnaligned_1 : List UInt8 := dkwJ16_getLongUnaligned_1 ++ dktJ16_getLongUnaligned_2
def dkwJ16_getLongUnaligned_0 : List UInt8 := [32, 20, 2, 184, 127, 9, 148, 154, 0, 10, 42, 43, 32, 182, 0, 27, 173, 32, 20, 1, 93, 127, 9, 148]
abbrev dktJ16_getLongUnaligned_0 : List UInt8 := dkwJ16_getLongUnaligned_0 ++ dktJ16_getLongUnaligned_1
theorem dksJ16_getLongUnaligned_0 : cJ16_getLongUnaligned.data.toList.drop 0 = dktJ16_getLongUnaligned_0 := by decide +kernel
theorem dksJ16_getLongUnaligned_1 : cJ16_getLongUnaligned.data.toList.drop 24 = dktJ16_getLongUnaligned_1 := dk_seg dksJ16_getLongUnaligned_0 24 rfl rfl
theorem dksJ16_getLongUnaligned_2 : cJ16_getLongUnaligned.data.toList.drop 48 = dktJ16_getLongUnaligned_2 := dk_seg dksJ16_getLongUnaligned_1 24 rfl rfl
theorem dksJ16_getLongUnaligned_3 : cJ16_getLongUnaligned.data.toList.drop 72 = dktJ16_getLongUnaligned_3 := dk_seg dksJ16_getLongUnaligned_2 24 rfl rfl
theorem dksJ16_getLongUnaligned_4 : cJ16_getLongUnaligned.data.toList.drop 96 = dktJ16_getLongUnaligned_4 := dk_seg dksJ16_getLongUnaligned_3 24 rfl rfl
theorem dksJ16_getLongUnaligned_5 : cJ16_getLongUnaligned.data.toList.drop 120 = dktJ16_getLongUnaligned_5 := dk_seg dksJ16_getLongUnaligned_4 24 rfl rfl
theorem dksJ16_getLongUnaligned_6 : cJ16_getLongUnaligned.data.toList.drop 142 = dktJ16_getLongUnaligned_6 := dk_seg dksJ16_getLongUnaligned_5 22 rfl rfl
theorem dksJ16_getLongUnaligned_7 : cJ16_getLongUnaligned.data.toList.drop 166 = dktJ16_getLongUnaligned_7 := dk_seg dksJ16_getLongUnaligned_6 24 rfl rfl
theorem dJ16_getLongUnaligned_0 : decode cJ16_getLongUnaligned 0 = .ok (.lload_n 2, 1) := dk_32 (dk_at dksJ16_getLongUnaligned_0 0 rfl rfl)
theorem dJ16_getLongUnaligned_1 : decode cJ16_getLongUnaligned 1 = .ok (.ldc2_w 696, 3) := dk_20 2 184 (dk_at dksJ16_getLongUnaligned_0 1 rfl rfl)
theorem dJ16_getLongUnaligned_4 : decode cJ16_getLongUnaligned 4 = .ok (.land, 1) := dk_127 (dk_at dksJ16_getLongUnaligned_0 4 rfl rfl)
theorem dJ16_getLongUnaligned_5 : decode cJ16_getLongUnaligned 5 = .ok (.lconst 0, 1) := dk_9 (dk_at dksJ16_getLongUnaligned_0 5 rfl rfl)
theorem dJ16_getLongUnaligned_6 : decode cJ16_getLongUnaligned 6 = .ok (.lcmp, 1) := dk_148 (dk_at dksJ16_getLongUnaligned_0 6 rfl rfl)
theorem dJ16_getLongUnaligned_7 : decode cJ16_getLongUnaligned 7 = .ok (.ifCond .ne 10, 3) := dk_154 0 10 (dk_at dksJ16_getLongUnaligned_0 7 rfl rfl)
theorem dJ16_getLongUnaligned_10 : decode cJ16_getLongUnaligned 10 = .ok (.aload_n 0, 1) := dk_42 (dk_at dksJ16_getLongUnaligned_0 10 rfl rfl)
theorem dJ16_getLongUnaligned_11 : decode cJ16_getLongUnaligned 11 = .ok (.aload_n 1, 1) := dk_43 (dk_at dksJ16_getLongUnaligned_0 11 rfl rfl)
theorem dJ16_getLongUnaligned_12 : decode cJ16_getLongUnaligned 12 = .ok (.lload_n 2, 1) := dk_32 (dk_at dksJ16_getLongUnaligned_0 12 rfl rfl)
theorem dJ16_getLongUnaligned_13 : decode cJ16_getLongUnaligned 13 = .ok (.invokevirtual 27, 3) := dk_182 0 27 (dk_at dksJ16_getLongUnaligned_0 13 rfl rfl)
theorem dJ16_getLongUnaligned_16 : decode cJ16_getLongUnaligned 16 = .ok (.lreturn, 1) := dk_173 (dk_at dksJ16_getLongUnaligned_0 16 rfl rfl)
theorem dJ16_getLongUnaligned_17 : decode cJ16_getLongUnaligned 17 = .ok (.lload_n 2, 1) := dk_32 (dk_at dksJ16_getLongUnaligned_0 17 rfl rfl)
theorem dJ16_getLongUnaligned_18 : decode cJ16_getLongUnaligned 18 = .ok (.ldc2_w 349, 3) := dk_20 1 93 (dk_at dksJ16_getLongUnaligned_0 18 rfl rfl)
theorem dJ16_getLongUnaligned_21 : decode cJ16_getLongUnaligned 21 = .ok (.land, 1) := dk_127 (dk_at dksJ16_getLongUnaligned_0 21 rfl rfl)
theorem dJ16_getLongUnaligned_22 : decode cJ16_getLongUnaligned 22 = .ok (.lconst 0, 1) := dk_9 (dk_at dksJ16_getLongUnaligned_0 22 rfl rfl)
theorem dJ16_getLongUnaligned_23 : decode cJ16_getLongUnaligned 23 = .ok (.lcmp, 1) := dk_148 (dk_at dksJ16_getLongUnaligned_0 23 rfl rfl)
theorem dJ16_getLongUnaligned_24 : decode cJ16_getLongUnaligned 24 = .ok (.ifCond .ne 23, 3) := dk_154 0 23 (dk_at dksJ16_getLongUnaligned_1 0 rfl rfl)
theorem dJ16_getLongUnaligned_27 : decode cJ16_getLongUnaligned 27 = .ok (.aload_n 0, 1) := dk_42 (dk_at dksJ16_getLongUnaligned_1 3 rfl rfl)
theorem dJ16_getLongUnaligned_28 : decode cJ16_getLongUnaligned 28 = .ok (.aload_n 1, 1) := dk_43 (dk_at dksJ16_getLongUnaligned_1 4 rfl rfl)
theorem dJ16_getLongUnaligned_29 : decode cJ16_getLongUnaligned 29 = .ok (.lload_n 2, 1) := dk_32 (dk_at dksJ16_getLongUnaligned_1 5 rfl rfl)
theorem dJ16_getLongUnaligned_30 : decode cJ16_getLongUnaligned 30 = .ok (.invokevirtual 17, 3) := dk_182 0 17 (dk_at dksJ16_getLongUnaligned_1 6 rfl rfl)
theorem dJ16_getLongUnaligned_33 : decode cJ16_getLongUnaligned 33 = .ok (.aload_n 0, 1) := dk_42 (dk_at dksJ16_getLongUnaligned_1 9 rfl rfl)
theorem dJ16_getLongUnaligned_34 : decode cJ16_getLongUnaligned 34 = .ok (.aload_n 1, 1) := dk_43 (dk_at dksJ16_getLongUnaligned_1 10 rfl rfl)
theorem dJ16_getLongUnaligned_35 : decode cJ16_getLongUnaligned 35 = .ok (.lload_n 2, 1) := dk_32 (dk_at dksJ16_getLongUnaligned_1 11 rfl rfl)
theorem dJ16_getLongUnaligned_36 : decode cJ16_getLongUnaligned 36 = .ok (.ldc2_w 205, 3) := dk_20 0 205 (dk_at dksJ16_getLongUnaligned_1 12 rfl rfl)
theorem dJ16_getLongUnaligned_39 : decode cJ16_getLongUnaligned 39 = .ok (.ladd, 1) := dk_97 (dk_at dksJ16_getLongUnaligned_1 15 rfl rfl)
theorem dJ16_getLongUnaligned_40 : decode cJ16_getLongUnaligned 40 = .ok (.invokevirtual 17, 3) := dk_182 0 17 (dk_at dksJ16_getLongUnaligned_1 16 rfl rfl)
theorem dJ16_getLongUnaligned_43 : decode cJ16_getLongUnaligned 43 = .ok (.invokestatic 698, 3) := dk_184 2 186 (dk_at dksJ16_getLongUnaligned_1 19 rfl rfl)
theorem dJ16_getLongUnaligned_46 : decode cJ16_getLongUnaligned 46 = .ok (.lreturn, 1) := dk_173 (dk_at dksJ16_getLongUnaligned_1 22 rfl rfl)
theorem dJ16_getLongUnaligned_47 : decode cJ16_getLongUnaligned 47 = .ok (.lload_n 2, 1) := dk_32 (dk_at dksJ16_getLongUnaligned_1 23 rfl rfl)
theorem dJ16_getLongUnaligned_48 : decode cJ16_getLongUnaligned 48 = .ok (.lconst 1, 1) := dk_10 (dk_at dksJ16_getLongUnaligned_2 0 rfl rfl)
theorem dJ16_getLongUnaligned_49 : decode cJ16_getLongUnaligned 49 = .ok (.land, 1) := dk_127 (dk_at dksJ16_getLongUnaligned_2 1 rfl rfl)
theorem dJ16_getLongUnaligned_50 : decode cJ16_getLongUnaligned 50 = .ok (.lconst 0, 1) := dk_9 (dk_at dksJ16_getLongUnaligned_2 2 rfl rfl)
theorem dJ16_getLongUnaligned_51 : decode cJ16_getLongUnaligned 51 = .ok (.lcmp, 1) := dk_148 (dk_at dksJ16_getLongUnaligned_2 3 rfl rfl)
theorem dJ16_getLongUnaligned_52 : decode cJ16_getLongUnaligned 52 = .ok (.ifCond .ne 43, 3) := dk_154 0 43 (dk_at dksJ16_getLongUnaligned_2 4 rfl rfl)
theorem dJ16_getLongUnaligned_55 : decode cJ16_getLongUnaligned 55 = .ok (.aload_n 0, 1) := dk_42 (dk_at dksJ16_getLongUnaligned_2 7 rfl rfl)
theorem dJ16_getLongUnaligned_56 : decode cJ16_getLongUnaligned 56 = .ok (.aload_n 1, 1) := dk_43 (dk_at dksJ16_getLongUnaligned_2 8 rfl rfl)
theorem dJ16_getLongUnaligned_57 : decode cJ16_getLongUnaligned 57 = .ok (.lload_n 2, 1) := dk_32 (dk_at dksJ16_getLongUnaligned_2 9 rfl rfl)
theorem dJ16_getLongUnaligned_58 : decode cJ16_getLongUnaligned 58 = .ok (.invokevirtual 47, 3) := dk_182 0 47 (dk_at dksJ16_getLongUnaligned_2 10 rfl rfl)
theorem dJ16_getLongUnaligned_61 : decode cJ16_getLongUnaligned 61 = .ok (.aload_n 0, 1) := dk_42 (dk_at dksJ16_getLongUnaligned_2 13 rfl rfl)
theorem dJ16_getLongUnaligned_62 : decode cJ16_getLongUnaligned 62 = .ok (.aload_n 1, 1) := dk_43 (dk_at dksJ16_getLongUnaligned_2 14 rfl rfl)
theorem dJ16_getLongUnaligned_63 : decode cJ16_getLongUnaligned 63 = .ok (.lload_n 2, 1) := dk_32 (dk_at dksJ16_getLongUnaligned_2 15 rfl rfl)
theorem dJ16_getLongUnaligned_64 : decode cJ16_getLongUnaligned 64 = .ok (.ldc2_w 203, 3) := dk_20 0 203 (dk_at dksJ16_getLongUnaligned_2 16 rfl rfl)
theorem dJ16_getLongUnaligned_67 : decode cJ16_getLongUnaligned 67 = .ok (.ladd, 1) := dk_97 (dk_at dksJ16_getLongUnaligned_2 19 rfl rfl)
theorem dJ16_getLongUnaligned_68 : decode cJ16_getLongUnaligned 68 = .ok (.invokevirtual 47, 3) := dk_182 0 47 (dk_at dksJ16_getLongUnaligned_2 20 rfl rfl)
theorem dJ16_getLongUnaligned_71 : decode cJ16_getLongUnaligned 71 = .ok (.aload_n 0, 1) := dk_42 (dk_at dksJ16_getLongUnaligned_2 23 rfl rfl)
theorem dJ16_getLongUnaligned_72 : decode cJ16_getLongUnaligned 72 = .ok (.aload_n 1, 1) := dk_43 (dk_at dksJ16_getLongUnaligned_3 0 rfl rfl)
theorem dJ16_getLongUnaligned_73 : decode cJ16_getLongUnaligned 73 = .ok (.lload_n 2, 1) := dk_32 (dk_at dksJ16_getLongUnaligned_3 1 rfl rfl)
theorem dJ16_getLongUnaligned_74 : decode cJ16_getLongUnaligned 74 = .ok (.ldc2_w 205, 3) := dk_20 0 205 (dk_at dksJ16_getLongUnaligned_3 2 rfl rfl)
theorem dJ16_getLongUnaligned_77 : decode cJ16_getLongUnaligned 77 = .ok (.ladd, 1) := dk_97 (dk_at dksJ16_getLongUnaligned_3 5 rfl rfl)
theorem dJ16_getLongUnaligned_78 : decode cJ16_getLongUnaligned 78 = .ok (.invokevirtual 47, 3) := dk_182 0 47 (dk_at dksJ16_getLongUnaligned_3 6 rfl rfl)
theorem dJ16_getLongUnaligned_81 : decode cJ16_getLongUnaligned 81 = .ok (.aload_n 0, 1) := dk_42 (dk_at dksJ16_getLongUnaligned_3 9 rfl rfl)
theorem dJ16_getLongUnaligned_82 : decode cJ16_getLongUnaligned 82 = .ok (.aload_n 1, 1) := dk_43 (dk_at dksJ16_getLongUnaligned_3 10 rfl rfl)
theorem dJ16_getLongUnaligned_83 : decode cJ16_getLongUnaligned 83 = .ok (.lload_n 2, 1) := dk_32 (dk_at dksJ16_getLongUnaligned_3 11 rfl rfl)
theorem dJ16_getLongUnaligned_84 : decode cJ16_getLongUnaligned 84 = .ok (.ldc2_w 702, 3) := dk_20 2 190 (dk_at dksJ16_getLongUnaligned_3 12 rfl rfl)
theorem dJ16_getLongUnaligned_87 : decode cJ16_getLongUnaligned 87 = .ok (.ladd, 1) := dk_97 (dk_at dksJ16_getLongUnaligned_3 15 rfl rfl)
theorem dJ16_getLongUnaligned_88 : decode cJ16_getLongUnaligned 88 = .ok (.invokevirtual 47, 3) := dk_182 0 47 (dk_at dksJ16_getLongUnaligned_3 16 rfl rfl)
theorem dJ16_getLongUnaligned_91 : decode cJ16_getLongUnaligned 91 = .ok (.invokestatic 704, 3) := dk_184 2 192 (dk_at dksJ16_getLongUnaligned_3 19 rfl rfl)
theorem dJ16_getLongUnaligned_94 : decode cJ16_getLongUnaligned 94 = .ok (.lreturn, 1) := dk_173 (dk_at dksJ16_getLongUnaligned_3 22 rfl rfl)
theorem dJ16_getLongUnaligned_95 : decode cJ16_getLongUnaligned 95 = .ok (.aload_n 0, 1) := dk_42 (dk_at dksJ16_getLongUnaligned_3 23 rfl rfl)
theorem dJ16_getLongUnaligned_96 : decode cJ16_getLongUnaligned 96 = .ok (.aload_n 1, 1) := dk_43 (dk_at dksJ16_getLongUnaligned_4 0 rfl rfl)
theorem dJ16_getLongUnaligned_97 : decode cJ16_getLongUnaligned 97 = .ok (.lload_n 2, 1) := dk_32 (dk_at dksJ16_getLongUnaligned_4 1 rfl rfl)
theorem dJ16_getLongUnaligned_98 : decode cJ16_getLongUnaligned 98 = .ok (.invokevirtual 39, 3) := dk_182 0 39 (dk_at dksJ16_getLongUnaligned_4 2 rfl rfl)
theorem dJ16_getLongUnaligned_101 : decode cJ16_getLongUnaligned 101 = .ok (.aload_n 0, 1) := dk_42 (dk_at dksJ16_getLongUnaligned_4 5 rfl rfl)
theorem dJ16_getLongUnaligned_102 : decode cJ16_getLongUnaligned 102 = .ok (.aload_n 1, 1) := dk_43 (dk_at dksJ16_getLongUnaligned_4 6 rfl rfl)
theorem dJ16_getLongUnaligned_103 : decode cJ16_getLongUnaligned 103 = .ok (.lload_n 2, 1) := dk_32 (dk_at dksJ16_getLongUnaligned_4 7 rfl rfl)
theorem dJ16_getLongUnaligned_104 : decode cJ16_getLongUnaligned 104 = .ok (.lconst 1, 1) := dk_10 (dk_at dksJ16_getLongUnaligned_4 8 rfl rfl)
theorem dJ16_getLongUnaligned_105 : decode cJ16_getLongUnaligned 105 = .ok (.ladd, 1) := dk_97 (dk_at dksJ16_getLongUnaligned_4 9 rfl rfl)
theorem dJ16_getLongUnaligned_106 : decode cJ16_getLongUnaligned 106 = .ok (.invokevirtual 39, 3) := dk_182 0 39 (dk_at dksJ16_getLongUnaligned_4 10 rfl rfl)
theorem dJ16_getLongUnaligned_109 : decode cJ16_getLongUnaligned 109 = .ok (.aload_n 0, 1) := dk_42 (dk_at dksJ16_getLongUnaligned_4 13 rfl rfl)
theorem dJ16_getLongUnaligned_110 : decode cJ16_getLongUnaligned 110 = .ok (.aload_n 1, 1) := dk_43 (dk_at dksJ16_getLongUnaligned_4 14 rfl rfl)
theorem dJ16_getLongUnaligned_111 : decode cJ16_getLongUnaligned 111 = .ok (.lload_n 2, 1) := dk_32 (dk_at dksJ16_getLongUnaligned_4 15 rfl rfl)
theorem dJ16_getLongUnaligned_112 : decode cJ16_getLongUnaligned 112 = .ok (.ldc2_w 203, 3) := dk_20 0 203 (dk_at dksJ16_getLongUnaligned_4 16 rfl rfl)
theorem dJ16_getLongUnaligned_115 : decode cJ16_getLongUnaligned 115 = .ok (.ladd, 1) := dk_97 (dk_at dksJ16_getLongUnaligned_4 19 rfl rfl)
theorem dJ16_getLongUnaligned_116 : decode cJ16_getLongUnaligned 116 = .ok (.invokevirtual 39, 3) := dk_182 0 39 (dk_at dksJ16_getLongUnaligned_4 20 rfl rfl)
theorem dJ16_getLongUnaligned_119 : decode cJ16_getLongUnaligned 119 = .ok (.aload_n 0, 1) := dk_42 (dk_at dksJ16_getLongUnaligned_4 23 rfl rfl)
theorem dJ16_getLongUnaligned_120 : decode cJ16_getLongUnaligned 120 = .ok (.aload_n 1, 1) := dk_43 (dk_at dksJ16_getLongUnaligned_5 0 rfl rfl)
theorem dJ16_getLongUnaligned_121 : decode cJ16_getLongUnaligned 121 = .ok (.lload_n 2, 1) := dk_32 (dk_at dksJ16_getLongUnaligned_5 1 rfl rfl)
theorem dJ16_getLongUnaligned_122 : decode cJ16_getLongUnaligned 122 = .ok (.ldc2_w 349, 3) := dk_20 1 93 (dk_at dksJ16_getLongUnaligned_5 2 rfl rfl)
theorem dJ16_getLongUnaligned_125 : decode cJ16_getLongUnaligned 125 = .ok (.ladd, 1) := dk_97 (dk_at dksJ16_getLongUnaligned_5 5 rfl rfl)
theorem dJ16_getLongUnaligned_126 : decode cJ16_getLongUnaligned 126 = .ok (.invokevirtual 39, 3) := dk_182 0 39 (dk_at dksJ16_getLongUnaligned_5 6 rfl rfl)
theorem dJ16_getLongUnaligned_129 : decode cJ16_getLongUnaligned 129 = .ok (.aload_n 0, 1) := dk_42 (dk_at dksJ16_getLongUnaligned_5 9 rfl rfl)
theorem dJ16_getLongUnaligned_130 : decode cJ16_getLongUnaligned 130 = .ok (.aload_n 1, 1) := dk_43 (dk_at dksJ16_getLongUnaligned_5 10 rfl rfl)
theorem dJ16_getLongUnaligned_131 : decode cJ16_getLongUnaligned 131 = .ok (.lload_n 2, 1) := dk_32 (dk_at dksJ16_getLongUnaligned_5 11 rfl rfl)
theorem dJ16_getLongUnaligned_132 : decode cJ16_getLongUnaligned 132 = .ok (.ldc2_w 205, 3) := dk_20 0 205 (dk_at dksJ16_getLongUnaligned_5 12 rfl rfl)
theorem dJ16_getLongUnaligned_135 : decode cJ16_getLongUnaligned 135 = .ok (.ladd, 1) := dk_97 (dk_at dksJ16_getLongUnaligned_5 15 rfl rfl)
theorem dJ16_getLongUnaligned_136 : decode cJ16_getLongUnaligned 136 = .ok (.invokevirtual 39, 3) := dk_182 0 39 (dk_at dksJ16_getLongUnaligned_5 16 rfl rfl)
theorem dJ16_getLongUnaligned_139 : decode cJ16_getLongUnaligned 139 = .ok (.aload_n 0, 1) := dk_42 (dk_at dksJ16_getLongUnaligned_5 19 rfl rfl)
theorem dJ16_getLongUnaligned_140 : decode cJ16_getLongUnaligned 140 = .ok (.aload_n 1, 1) := dk_43 (dk_at dksJ16_getLongUnaligned_5 20 rfl rfl)
theorem dJ16_getLongUnaligned_141 : decode cJ16_getLongUnaligned 141 = .ok (.lload_n 2, 1) := dk_32 (dk_at dksJ16_getLongUnaligned_5 21 rfl rfl)
theorem dJ16_getLongUnaligned_142 : decode cJ16_getLongUnaligned 142 = .ok (.ldc2_w 707, 3) := dk_20 2 195 (dk_at dksJ16_getLongUnaligned_6 0 rfl rfl)
theorem dJ16_getLongUnaligned_145 : decode cJ16_getLongUnaligned 145 = .ok (.ladd, 1) := dk_97 (dk_at dksJ16_getLongUnaligned_6 3 rfl rfl)
theorem dJ16_getLongUnaligned_146 : decode cJ16_getLongUnaligned 146 = .ok (.invokevirtual 39, 3) := dk_182 0 39 (dk_at dksJ16_getLongUnaligned_6 4 rfl rfl)
theorem dJ16_getLongUnaligned_149 : decode cJ16_getLongUnaligned 149 = .ok (.aload_n 0, 1) := dk_42 (dk_at dksJ16_getLongUnaligned_6 7 rfl rfl)
theorem dJ16_getLongUnaligned_150 : decode cJ16_getLongUnaligned 150 = .ok (.aload_n 1, 1) := dk_43 (dk_at dksJ16_getLongUnaligned_6 8 rfl rfl)
theorem dJ16_getLongUnaligned_151 : decode cJ16_getLongUnaligned 151 = .ok (.lload_n 2, 1) := dk_32 (dk_at dksJ16_getLongUnaligned_6 9 rfl rfl)
theorem dJ16_getLongUnaligned_152 : decode cJ16_getLongUnaligned 152 = .ok (.ldc2_w 702, 3) := dk_20 2 190 (dk_at dksJ16_getLongUnaligned_6 10 rfl rfl)
theorem dJ16_getLongUnaligned_155 : decode cJ16_getLongUnaligned 155 = .ok (.ladd, 1) := dk_97 (dk_at dksJ16_getLongUnaligned_6 13 rfl rfl)
theorem dJ16_getLongUnaligned_156 : decode cJ16_getLongUnaligned 156 = .ok (.invokevirtual 39, 3) := dk_182 0 39 (dk_at dksJ16_getLongUnaligned_6 14 rfl rfl)
theorem dJ16_getLongUnaligned_159 : decode cJ16_getLongUnaligned 159 = .ok (.aload_n 0, 1) := dk_42 (dk_at dksJ16_getLongUnaligned_6 17 rfl rfl)
theorem dJ16_getLongUnaligned_160 : decode cJ16_getLongUnaligned 160 = .ok (.aload_n 1, 1) := dk_43 (dk_at dksJ16_getLongUnaligned_6 18 rfl rfl)
theorem dJ16_getLongUnaligned_161 : decode cJ16_getLongUnaligned 161 = .ok (.lload_n 2, 1) := dk_32 (dk_at dksJ16_getLongUnaligned_6 19 rfl rfl)
theorem dJ16_getLongUnaligned_162 : decode cJ16_getLongUnaligned 162 = .ok (.ldc2_w 696, 3) := dk_20 2 184 (dk_at dksJ16_getLongUnaligned_6 20 rfl rfl)
theorem dJ16_getLongUnaligned_165 : decode cJ16_getLongUnaligned 165 = .ok (.ladd, 1) := dk_97 (dk_at dksJ16_getLongUnaligned_6 23 rfl rfl)
theorem dJ16_getLongUnaligned_166 : decode cJ16_getLongUnaligned 166 = .ok (.invokevirtual 39, 3) := dk_182 0 39 (dk_at dksJ16_getLongUnaligned_7 0 rfl rfl)
theorem dJ16_getLongUnaligned_169 : decode cJ16_getLongUnaligned 169 = .ok (.invokestatic 709, 3) := dk_184 2 197 (dk_at dksJ16_getLongUnaligned_7 3 rfl rfl)
theorem dJ16_getLongUnaligned_172 : decode cJ16_getLongUnaligned 172 = .ok (.lreturn, 1) := dk_173 (dk_at dksJ16_getLongUnaligned_7 6 rfl rfl)
theorem q115 : (Jvm.Cond.initialized "jdk/internal/misc/Unsafe") ∈ lw_all := lw_g (lw_at lw_m1 23 rfl) rfl
theorem q450 : (Jvm.Cond.selects "jdk/internal/misc/Unsafe" ({ cls := "java/lang/Object", name := "getClass", desc := "()Ljava/lang/Class;" } : Jvm.MethodName) ({ cls := "java/lang/Object", name := "getClass", desc := "()Ljava/lang/Class;" } : Jvm.MethodName)) ∈ lw_all := lw_g (lw_at lw_m2 118 rfl) rfl
theorem q575 : (Jvm.Cond.selects "jdk/internal/misc/Unsafe" ({ cls := "java/lang/Object", name := "hashCode", desc := "()I" } : Jvm.MethodName) ({ cls := "java/lang/Object", name := "hashCode", desc := "()I" } : Jvm.MethodName)) ∈ lw_all := lw_g (lw_at lw_m3 3 rfl) rfl
theorem q618 : (Jvm.Cond.selects "jdk/internal/misc/Unsafe" ({ cls := "java/lang/Object", name := "equals", desc := "(Ljava/lang/Object;)Z" } : Jvm.MethodName) ({ cls := "java/lang/Object", name := "equals", desc := "(Ljava/lang/Object;)Z" } : Jvm.MethodName)) ∈ lw_all := lw_g (lw_at lw_m3 46 rfl) rfl
theorem q685 : (Jvm.Cond.laysStatic "jdk/internal/misc/Unsafe" "ARRAY_BYTE_BASE_OFFSET" "I") ∈ lw_tbl := lw_at lw_m3 113 rfl
theorem q696 : (Jvm.Cond.instanceMethod ({ cls := "jdk/internal/misc/Unsafe", name := "getLongUnaligned", desc := "(Ljava/lang/Object;J)J" } : Jvm.MethodName)) ∈ lw_all := lw_g (lw_at lw_m3 124 rfl) rfl
theorem q697 : (Jvm.Cond.selects "jdk/internal/misc/Unsafe" ({ cls := "jdk/internal/misc/Unsafe", name := "getLongUnaligned", desc := "(Ljava/lang/Object;J)J" } : Jvm.MethodName) ({ cls := "jdk/internal/misc/Unsafe", name := "getLongUnaligned", desc := "(Ljava/lang/Object;J)J" } : Jvm.MethodName)) ∈ lw_all := lw_g (lw_at lw_m3 125 rfl) rfl
theorem q698 : (Jvm.Cond.code ({ cls := "jdk/internal/misc/Unsafe", name := "getLongUnaligned", desc := "(Ljava/lang/Object;J)J" } : Jvm.MethodName) prog_67_method_334_code (4 : Nat) (Option.some Jvm.ClassFile.FieldType.long)) ∈ lw_all := lw_g (lw_at lw_m3 126 rfl) rfl
theorem q699 : (Jvm.Cond.constantLong "jdk/internal/misc/Unsafe" (696 : Nat) (7 : Int64)) ∈ lw_all := lw_g (lw_at lw_m3 127 rfl) rfl
theorem q700 : (Jvm.Cond.methodLink "jdk/internal/misc/Unsafe" (27 : Nat) ({ cls := "jdk/internal/misc/Unsafe", name := "getLong", desc := "(Ljava/lang/Object;J)J" } : Jvm.MethodName)) ∈ lw_all := lw_g (lw_at lw_m3 128 rfl) rfl
theorem q701 : (Jvm.Cond.instanceMethod ({ cls := "jdk/internal/misc/Unsafe", name := "getLong", desc := "(Ljava/lang/Object;J)J" } : Jvm.MethodName)) ∈ lw_all := lw_g (lw_at lw_m3 129 rfl) rfl
theorem q702 : (Jvm.Cond.selects "jdk/internal/misc/Unsafe" ({ cls := "jdk/internal/misc/Unsafe", name := "getLong", desc := "(Ljava/lang/Object;J)J" } : Jvm.MethodName) ({ cls := "jdk/internal/misc/Unsafe", name := "getLong", desc := "(Ljava/lang/Object;J)J" } : Jvm.MethodName)) ∈ lw_all := lw_g (lw_at lw_m3 130 rfl) rfl
theorem q703 : (Jvm.Cond.native ({ cls := "jdk/internal/misc/Unsafe", name := "getLong", desc := "(Ljava/lang/Object;J)J" } : Jvm.MethodName)) ∈ lw_all := lw_g (lw_at lw_m3 131 rfl) rfl
theorem q704 : (Jvm.Cond.constantLong "jdk/internal/misc/Unsafe" (349 : Nat) (3 : Int64)) ∈ lw_all := lw_g (lw_at lw_m3 132 rfl) rfl
theorem q705 : (Jvm.Cond.methodLink "jdk/internal/misc/Unsafe" (17 : Nat) ({ cls := "jdk/internal/misc/Unsafe", name := "getInt", desc := "(Ljava/lang/Object;J)I" } : Jvm.MethodName)) ∈ lw_all := lw_g (lw_at lw_m3 133 rfl) rfl
theorem q706 : (Jvm.Cond.instanceMethod ({ cls := "jdk/internal/misc/Unsafe", name := "getInt", desc := "(Ljava/lang/Object;J)I" } : Jvm.MethodName)) ∈ lw_all := lw_g (lw_at lw_m3 134 rfl) rfl
theorem q707 : (Jvm.Cond.selects "jdk/internal/misc/Unsafe" ({ cls := "jdk/internal/misc/Unsafe", name := "getInt", desc := "(Ljava/lang/Object;J)I" } : Jvm.MethodName) ({ cls := "jdk/internal/misc/Unsafe", name := "getInt", desc := "(Ljava/lang/Object;J)I" } : Jvm.MethodName)) ∈ lw_all := lw_g (lw_at lw_m3 135 rfl) rfl
theorem q708 : (Jvm.Cond.native ({ cls := "jdk/internal/misc/Unsafe", name := "getInt", desc := "(Ljava/lang/Object;J)I" } : Jvm.MethodName)) ∈ lw_all := lw_g (lw_at lw_m3 136 rfl) rfl
theorem q709 : (Jvm.Cond.constantLong "jdk/internal/misc/Unsafe" (205 : Nat) (4 : Int64)) ∈ lw_all := lw_g (lw_at lw_m3 137 rfl) rfl
theorem q710 : (Jvm.Cond.methodLink "jdk/internal/misc/Unsafe" (698 : Nat) ({ cls := "jdk/internal/misc/Unsafe", name := "makeLong", desc := "(II)J" } : Jvm.MethodName)) ∈ lw_all := lw_g (lw_at lw_m3 138 rfl) rfl
theorem q711 : (Jvm.Cond.static ({ cls := "jdk/internal/misc/Unsafe", name := "makeLong", desc := "(II)J" } : Jvm.MethodName)) ∈ lw_all := lw_g (lw_at lw_m3 139 rfl) rfl
theorem q712 : (Jvm.Cond.code ({ cls := "jdk/internal/misc/Unsafe", name := "makeLong", desc := "(II)J" } : Jvm.MethodName) prog_67_method_353_code (2 : Nat) (Option.some Jvm.ClassFile.FieldType.long)) ∈ lw_all := lw_g (lw_at lw_m3 140 rfl) rfl
theorem q713 : (Jvm.Cond.methodLink "jdk/internal/misc/Unsafe" (791 : Nat) ({ cls := "jdk/internal/misc/Unsafe", name := "toUnsignedLong", desc := "(I)J" } : Jvm.MethodName)) ∈ lw_all := lw_g (lw_at lw_m3 141 rfl) rfl
theorem q714 : (Jvm.Cond.static ({ cls := "jdk/internal/misc/Unsafe", name := "toUnsignedLong", desc := "(I)J" } : Jvm.MethodName)) ∈ lw_all := lw_g (lw_at lw_m3 142 rfl) rfl
theorem q715 : (Jvm.Cond.code ({ cls := "jdk/internal/misc/Unsafe", name := "toUnsignedLong", desc := "(I)J" } : Jvm.MethodName) prog_67_method_370_code (1 : Nat) (Option.some Jvm.ClassFile.FieldType.long)) ∈ lw_all := lw_g (lw_at lw_m3 143 rfl) rfl
theorem q716 : (Jvm.Cond.constantLong "jdk/internal/misc/Unsafe" (812 : Nat) (4294967295 : Int64)) ∈ lw_all := lw_g (lw_at lw_m3 144 rfl) rfl
theorem q717 : (Jvm.Cond.methodLink "jdk/internal/misc/Unsafe" (784 : Nat) ({ cls := "jdk/internal/misc/Unsafe", name := "pickPos", desc := "(II)I" } : Jvm.MethodName)) ∈ lw_all := lw_g (lw_at lw_m3 145 rfl) rfl
theorem q718 : (Jvm.Cond.static ({ cls := "jdk/internal/misc/Unsafe", name := "pickPos", desc := "(II)I" } : Jvm.MethodName)) ∈ lw_all := lw_g (lw_at lw_m3 146 rfl) rfl
theorem q719 : (Jvm.Cond.code ({ cls := "jdk/internal/misc/Unsafe", name := "pickPos", desc := "(II)I" } : Jvm.MethodName) prog_67_method_350_code (2 : Nat) (Option.some Jvm.ClassFile.FieldType.int)) ∈ lw_all := lw_g (lw_at lw_m3 147 rfl) rfl
theorem q720 : (Jvm.Cond.fieldLink "jdk/internal/misc/Unsafe" (351 : Nat) "jdk/internal/misc/UnsafeConstants" "BIG_ENDIAN" "Z") ∈ lw_all := lw_g (lw_at lw_m3 148 rfl) rfl
theorem q722 : (Jvm.Cond.methodLink "jdk/internal/misc/Unsafe" (47 : Nat) ({ cls := "jdk/internal/misc/Unsafe", name := "getShort", desc := "(Ljava/lang/Object;J)S" } : Jvm.MethodName)) ∈ lw_all := lw_g (lw_at lw_m3 150 rfl) rfl
theorem q723 : (Jvm.Cond.instanceMethod ({ cls := "jdk/internal/misc/Unsafe", name := "getShort", desc := "(Ljava/lang/Object;J)S" } : Jvm.MethodName)) ∈ lw_all := lw_g (lw_at lw_m3 151 rfl) rfl
theorem q724 : (Jvm.Cond.selects "jdk/internal/misc/Unsafe" ({ cls := "jdk/internal/misc/Unsafe", name := "getShort", desc := "(Ljava/lang/Object;J)S" } : Jvm.MethodName) ({ cls := "jdk/internal/misc/Unsafe", name := "getShort", desc := "(Ljava/lang/Object;J)S" } : Jvm.MethodName)) ∈ lw_all := lw_g (lw_at lw_m3 152 rfl) rfl
theorem q725 : (Jvm.Cond.native ({ cls := "jdk/internal/misc/Unsafe", name := "getShort", desc := "(Ljava/lang/Object;J)S" } : Jvm.MethodName)) ∈ lw_all := lw_g (lw_at lw_m3 153 rfl) rfl
theorem q726 : (Jvm.Cond.constantLong "jdk/internal/misc/Unsafe" (203 : Nat) (2 : Int64)) ∈ lw_all := lw_g (lw_at lw_m3 154 rfl) rfl
theorem q727 : (Jvm.Cond.constantLong "jdk/internal/misc/Unsafe" (702 : Nat) (6 : Int64)) ∈ lw_all := lw_g (lw_at lw_m3 155 rfl) rfl
theorem q728 : (Jvm.Cond.methodLink "jdk/internal/misc/Unsafe" (704 : Nat) ({ cls := "jdk/internal/misc/Unsafe", name := "makeLong", desc := "(SSSS)J" } : Jvm.MethodName)) ∈ lw_all := lw_g (lw_at lw_m3 156 rfl) rfl
theorem q729 : (Jvm.Cond.static ({ cls := "jdk/internal/misc/Unsafe", name := "makeLong", desc := "(SSSS)J" } : Jvm.MethodName)) ∈ lw_all := lw_g (lw_at lw_m3 157 rfl) rfl
theorem q730 : (Jvm.Cond.code ({ cls := "jdk/internal/misc/Unsafe", name := "makeLong", desc := "(SSSS)J" } : Jvm.MethodName) prog_67_method_352_code (4 : Nat) (Option.some Jvm.ClassFile.FieldType.long)) ∈ lw_all := lw_g (lw_at lw_m3 158 rfl) rfl
theorem q731 : (Jvm.Cond.methodLink "jdk/internal/misc/Unsafe" (788 : Nat) ({ cls := "jdk/internal/misc/Unsafe", name := "toUnsignedLong", desc := "(S)J" } : Jvm.MethodName)) ∈ lw_all := lw_g (lw_at lw_m3 159 rfl) rfl
theorem q732 : (Jvm.Cond.static ({ cls := "jdk/internal/misc/Unsafe", name := "toUnsignedLong", desc := "(S)J" } : Jvm.MethodName)) ∈ lw_all := lw_g (lw_at lw_m3 160 rfl) rfl
theorem q733 : (Jvm.Cond.code ({ cls := "jdk/internal/misc/Unsafe", name := "toUnsignedLong", desc := "(S)J" } : Jvm.MethodName) prog_67_method_369_code (1 : Nat) (Option.some Jvm.ClassFile.FieldType.long)) ∈ lw_all := lw_g (lw_at lw_m3 161 rfl) rfl
theorem q734 : (Jvm.Cond.constantLong "jdk/internal/misc/Unsafe" (810 : Nat) (65535 : Int64)) ∈ lw_all := lw_g (lw_at lw_m3 162 rfl) rfl
theorem q735 : (Jvm.Cond.methodLink "jdk/internal/misc/Unsafe" (39 : Nat) ({ cls := "jdk/internal/misc/Unsafe", name := "getByte", desc := "(Ljava/lang/Object;J)B" } : Jvm.MethodName)) ∈ lw_all := lw_g (lw_at lw_m3 163 rfl) rfl
theorem q736 : (Jvm.Cond.instanceMethod ({ cls := "jdk/internal/misc/Unsafe", name := "getByte", desc := "(Ljava/lang/Object;J)B" } : Jvm.MethodName)) ∈ lw_all := lw_g (lw_at lw_m3 164 rfl) rfl
theorem q737 : (Jvm.Cond.selects "jdk/internal/misc/Unsafe" ({ cls := "jdk/internal/misc/Unsafe", name := "getByte", desc := "(Ljava/lang/Object;J)B" } : Jvm.MethodName) ({ cls := "jdk/internal/misc/Unsafe", name := "getByte", desc := "(Ljava/lang/Object;J)B" } : Jvm.MethodName)) ∈ lw_all := lw_g (lw_at lw_m3 165 rfl) rfl
theorem q738 : (Jvm.Cond.native ({ cls := "jdk/internal/misc/Unsafe", name := "getByte", desc := "(Ljava/lang/Object;J)B" } : Jvm.MethodName)) ∈ lw_all := lw_g (lw_at lw_m3 166 rfl) rfl
theorem q739 : (Jvm.Cond.constantLong "jdk/internal/misc/Unsafe" (707 : Nat) (5 : Int64)) ∈ lw_all := lw_g (lw_at lw_m3 167 rfl) rfl
theorem q740 : (Jvm.Cond.methodLink "jdk/internal/misc/Unsafe" (709 : Nat) ({ cls := "jdk/internal/misc/Unsafe", name := "makeLong", desc := "(BBBBBBBB)J" } : Jvm.MethodName)) ∈ lw_all := lw_g (lw_at lw_m3 168 rfl) rfl
theorem q741 : (Jvm.Cond.static ({ cls := "jdk/internal/misc/Unsafe", name := "makeLong", desc := "(BBBBBBBB)J" } : Jvm.MethodName)) ∈ lw_all := lw_g (lw_at lw_m3 169 rfl) rfl
theorem q742 : (Jvm.Cond.code ({ cls := "jdk/internal/misc/Unsafe", name := "makeLong", desc := "(BBBBBBBB)J" } : Jvm.MethodName) prog_67_method_351_code (8 : Nat) (Option.some Jvm.ClassFile.FieldType.long)) ∈ lw_all := lw_g (lw_at lw_m3 170 rfl) rfl
theorem q743 : (Jvm.Cond.methodLink "jdk/internal/misc/Unsafe" (781 : Nat) ({ cls := "jdk/internal/misc/Unsafe", name := "toUnsignedLong", desc := "(B)J" } : Jvm.MethodName)) ∈ lw_all := lw_g (lw_at lw_m3 171 rfl) rfl
theorem q744 : (Jvm.Cond.static ({ cls := "jdk/internal/misc/Unsafe", name := "toUnsignedLong", desc := "(B)J" } : Jvm.MethodName)) ∈ lw_all := lw_g (lw_at lw_m3 172 rfl) rfl
theorem q745 : (Jvm.Cond.code ({ cls := "jdk/internal/misc/Unsafe", name := "toUnsignedLong", desc := "(B)J" } : Jvm.MethodName) prog_67_method_368_code (1 : Nat) (Option.some Jvm.ClassFile.FieldType.long)) ∈ lw_all := lw_g (lw_at lw_m3 173 rfl) rfl
theorem q746 : (Jvm.Cond.constantLong "jdk/internal/misc/Unsafe" (808 : Nat) (255 : Int64)) ∈ lw_all := lw_g (lw_at lw_m3 174 rfl) rfl
theorem q767 : (Jvm.Cond.instanceMethod ({ cls := "jdk/internal/misc/Unsafe", name := "getIntUnaligned", desc := "(Ljava/lang/Object;J)I" } : Jvm.MethodName)) ∈ lw_all := lw_g (lw_at lw_m3 195 rfl) rfl
theorem q768 : (Jvm.Cond.selects "jdk/internal/misc/Unsafe" ({ cls := "jdk/internal/misc/Unsafe", name := "getIntUnaligned", desc := "(Ljava/lang/Object;J)I" } : Jvm.MethodName) ({ cls := "jdk/internal/misc/Unsafe", name := "getIntUnaligned", desc := "(Ljava/lang/Object;J)I" } : Jvm.MethodName)) ∈ lw_all := lw_g (lw_at lw_m3 196 rfl) rfl
theorem q769 : (Jvm.Cond.code ({ cls := "jdk/internal/misc/Unsafe", name := "getIntUnaligned", desc := "(Ljava/lang/Object;J)I" } : Jvm.MethodName) prog_67_method_336_code (4 : Nat) (Option.some Jvm.ClassFile.FieldType.int)) ∈ lw_all := lw_g (lw_at lw_m3 197 rfl) rfl
theorem q770 : (Jvm.Cond.methodLink "jdk/internal/misc/Unsafe" (719 : Nat) ({ cls := "jdk/internal/misc/Unsafe", name := "makeInt", desc := "(SS)I" } : Jvm.MethodName)) ∈ lw_all := lw_g (lw_at lw_m3 198 rfl) rfl
theorem q771 : (Jvm.Cond.static ({ cls := "jdk/internal/misc/Unsafe", name := "makeInt", desc := "(SS)I" } : Jvm.MethodName)) ∈ lw_all := lw_g (lw_at lw_m3 199 rfl) rfl
theorem q772 : (Jvm.Cond.code ({ cls := "jdk/internal/misc/Unsafe", name := "makeInt", desc := "(SS)I" } : Jvm.MethodName) prog_67_method_354_code (2 : Nat) (Option.some Jvm.ClassFile.FieldType.int)) ∈ lw_all := lw_g (lw_at lw_m3 200 rfl) rfl
theorem q773 : (Jvm.Cond.methodLink "jdk/internal/misc/Unsafe" (792 : Nat) ({ cls := "jdk/internal/misc/Unsafe", name := "toUnsignedInt", desc := "(S)I" } : Jvm.MethodName)) ∈ lw_all := lw_g (lw_at lw_m3 201 rfl) rfl
theorem q774 : (Jvm.Cond.static ({ cls := "jdk/internal/misc/Unsafe", name := "toUnsignedInt", desc := "(S)I" } : Jvm.MethodName)) ∈ lw_all := lw_g (lw_at lw_m3 202 rfl) rfl
theorem q775 : (Jvm.Cond.code ({ cls := "jdk/internal/misc/Unsafe", name := "toUnsignedInt", desc := "(S)I" } : Jvm.MethodName) prog_67_method_367_code (1 : Nat) (Option.some Jvm.ClassFile.FieldType.int)) ∈ lw_all := lw_g (lw_at lw_m3 203 rfl) rfl
theorem q776 : (Jvm.Cond.constant "jdk/internal/misc/Unsafe" (374 : Nat) (65535 : Int32)) ∈ lw_all := lw_g (lw_at lw_m3 204 rfl) rfl
theorem q777 : (Jvm.Cond.methodLink "jdk/internal/misc/Unsafe" (723 : Nat) ({ cls := "jdk/internal/misc/Unsafe", name := "makeInt", desc := "(BBBB)I" } : Jvm.MethodName)) ∈ lw_all := lw_g (lw_at lw_m3 205 rfl) rfl
theorem q778 : (Jvm.Cond.static ({ cls := "jdk/internal/misc/Unsafe", name := "makeInt", desc := "(BBBB)I" } : Jvm.MethodName)) ∈ lw_all := lw_g (lw_at lw_m3 206 rfl) rfl
theorem q779 : (Jvm.Cond.code ({ cls := "jdk/internal/misc/Unsafe", name := "makeInt", desc := "(BBBB)I" } : Jvm.MethodName) prog_67_method_355_code (4 : Nat) (Option.some Jvm.ClassFile.FieldType.int)) ∈ lw_all := lw_g (lw_at lw_m3 207 rfl) rfl
theorem q780 : (Jvm.Cond.methodLink "jdk/internal/misc/Unsafe" (796 : Nat) ({ cls := "jdk/internal/misc/Unsafe", name := "toUnsignedInt", desc := "(B)I" } : Jvm.MethodName)) ∈ lw_all := lw_g (lw_at lw_m3 208 rfl) rfl
theorem q781 : (Jvm.Cond.static ({ cls := "jdk/internal/misc/Unsafe", name := "toUnsignedInt", desc := "(B)I" } : Jvm.MethodName)) ∈ lw_all := lw_g (lw_at lw_m3 209 rfl) rfl
theorem q782 : (Jvm.Cond.code ({ cls := "jdk/internal/misc/Unsafe", name := "toUnsignedInt", desc := "(B)I" } : Jvm.MethodName) prog_67_method_366_code (1 : Nat) (Option.some Jvm.ClassFile.FieldType.int)) ∈ lw_all := lw_g (lw_at lw_m3 210 rfl) rfl
theorem q2943 : (Jvm.Cond.castable "jdk/internal/misc/Unsafe" "java/lang/Object") ∈ lw_tbl := lw_at lw_m12 211 rfl

/-! java/lang/Long -/
set_option maxRecDepth 100000
def RJ17 : String := "java/lang/Long"
abbrev cJ17_numberOfTrailingZeros : ByteArray := prog_36_method_49_code
def yJ17_numberOfTrailingZeros : MethodName := ⟨RJ17, "numberOfTrailingZeros", "(J)I"⟩
def dkwJ17_numberOfTrailingZeros_1 : List UInt8 := [184, 1, 55, 172]
abbrev dktJ17_numberOfTrailingZeros_1 : List UInt8 := dkwJ17_numberOfTrailingZeros_1 ++ []
def dkwJ17_numberOfTrailingZeros_0 : List UInt8 := [30, 136, 61, 28, 154, 0, 17, 16, 32, 30, 16, 32, 125, 136, 184, 1, 55, 96, 167, 0, 7, 28]
abbrev dktJ17_numberOfTrailingZeros_0 : List UInt8 := dkwJ17_numberOfTrailingZeros_0 ++ dktJ17_numberOfTrailingZeros_1
theorem dksJ17_numberOfTrailingZeros_0 : cJ17_numberOfTrailingZeros.data.toList.drop 0 = dktJ17_numberOfTrailingZeros_0 := by decide +kernel
theorem dksJ17_numberOfTrailingZeros_1 : cJ17_numberOfTrailingZeros.data.toList.drop 22 = dktJ17_numberOfTrailingZeros_1 := dk_seg dksJ17_numberOfTrailingZeros_0 22 rfl rfl
theorem dJ17_numberOfTrailingZeros_0 : decode cJ17_numberOfTrailingZeros 0 = .ok (.lload_n 0, 1) := dk_30 (dk_at dksJ17_numberOfTrailingZeros_0 0 rfl rfl)
theorem dJ17_numberOfTrailingZeros_1 : decode cJ17_numberOfTrailingZeros 1 = .ok (.l2i, 1) := dk_136 (dk_at dksJ17_numberOfTrailingZeros_0 1 rfl rfl)
theorem dJ17_numberOfTrailingZeros_2 : decode cJ17_numberOfTrailingZeros 2 = .ok (.istore_n 2, 1) := dk_61 (dk_at dksJ17_numberOfTrailingZeros_0 2 rfl rfl)
theorem dJ17_numberOfTrailingZeros_3 : decode cJ17_numberOfTrailingZeros 3 = .ok (.iload_n 2, 1) := dk_28 (dk_at dksJ17_numberOfTrailingZeros_0 3 rfl rfl)
theorem dJ17_numberOfTrailingZeros_4 : decode cJ17_numberOfTrailingZeros 4 = .ok (.ifCond .ne 17, 3) := dk_154 0 17 (dk_at dksJ17_numberOfTrailingZeros_0 4 rfl rfl)
theorem dJ17_numberOfTrailingZeros_7 : decode cJ17_numberOfTrailingZeros 7 = .ok (.bipush 32, 2) := dk_16 32 (dk_at dksJ17_numberOfTrailingZeros_0 7 rfl rfl)
theorem dJ17_numberOfTrailingZeros_9 : decode cJ17_numberOfTrailingZeros 9 = .ok (.lload_n 0, 1) := dk_30 (dk_at dksJ17_numberOfTrailingZeros_0 9 rfl rfl)
theorem dJ17_numberOfTrailingZeros_10 : decode cJ17_numberOfTrailingZeros 10 = .ok (.bipush 32, 2) := dk_16 32 (dk_at dksJ17_numberOfTrailingZeros_0 10 rfl rfl)
theorem dJ17_numberOfTrailingZeros_12 : decode cJ17_numberOfTrailingZeros 12 = .ok (.lushr, 1) := dk_125 (dk_at dksJ17_numberOfTrailingZeros_0 12 rfl rfl)
theorem dJ17_numberOfTrailingZeros_13 : decode cJ17_numberOfTrailingZeros 13 = .ok (.l2i, 1) := dk_136 (dk_at dksJ17_numberOfTrailingZeros_0 13 rfl rfl)
theorem dJ17_numberOfTrailingZeros_14 : decode cJ17_numberOfTrailingZeros 14 = .ok (.invokestatic 311, 3) := dk_184 1 55 (dk_at dksJ17_numberOfTrailingZeros_0 14 rfl rfl)
theorem dJ17_numberOfTrailingZeros_17 : decode cJ17_numberOfTrailingZeros 17 = .ok (.iadd, 1) := dk_96 (dk_at dksJ17_numberOfTrailingZeros_0 17 rfl rfl)
theorem dJ17_numberOfTrailingZeros_18 : decode cJ17_numberOfTrailingZeros 18 = .ok (.goto 7, 3) := dk_167 0 7 (dk_at dksJ17_numberOfTrailingZeros_0 18 rfl rfl)
theorem dJ17_numberOfTrailingZeros_21 : decode cJ17_numberOfTrailingZeros 21 = .ok (.iload_n 2, 1) := dk_28 (dk_at dksJ17_numberOfTrailingZeros_0 21 rfl rfl)
theorem dJ17_numberOfTrailingZeros_22 : decode cJ17_numberOfTrailingZeros 22 = .ok (.invokestatic 311, 3) := dk_184 1 55 (dk_at dksJ17_numberOfTrailingZeros_1 0 rfl rfl)
theorem dJ17_numberOfTrailingZeros_25 : decode cJ17_numberOfTrailingZeros 25 = .ok (.ireturn, 1) := dk_172 (dk_at dksJ17_numberOfTrailingZeros_1 3 rfl rfl)
theorem q117 : (Jvm.Cond.initialized "java/lang/Long") ∈ lw_all := lw_g (lw_at lw_m1 25 rfl) rfl
theorem q750 : (Jvm.Cond.static ({ cls := "java/lang/Long", name := "numberOfLeadingZeros", desc := "(J)I" } : Jvm.MethodName)) ∈ lw_all := lw_g (lw_at lw_m3 178 rfl) rfl
theorem q751 : (Jvm.Cond.code ({ cls := "java/lang/Long", name := "numberOfLeadingZeros", desc := "(J)I" } : Jvm.MethodName) prog_36_method_48_code (3 : Nat) (Option.some Jvm.ClassFile.FieldType.int)) ∈ lw_all := lw_g (lw_at lw_m3 179 rfl) rfl
theorem q752 : (Jvm.Cond.methodLink "java/lang/Long" (308 : Nat) ({ cls := "java/lang/Integer", name := "numberOfLeadingZeros", desc := "(I)I" } : Jvm.MethodName)) ∈ lw_all := lw_g (lw_at lw_m3 180 rfl) rfl
theorem q759 : (Jvm.Cond.static ({ cls := "java/lang/Long", name := "numberOfTrailingZeros", desc := "(J)I" } : Jvm.MethodName)) ∈ lw_all := lw_g (lw_at lw_m3 187 rfl) rfl
theorem q760 : (Jvm.Cond.code ({ cls := "java/lang/Long", name := "numberOfTrailingZeros", desc := "(J)I" } : Jvm.MethodName) prog_36_method_49_code (3 : Nat) (Option.some Jvm.ClassFile.FieldType.int)) ∈ lw_all := lw_g (lw_at lw_m3 188 rfl) rfl
theorem q761 : (Jvm.Cond.methodLink "java/lang/Long" (311 : Nat) ({ cls := "java/lang/Integer", name := "numberOfTrailingZeros", desc := "(I)I" } : Jvm.MethodName)) ∈ lw_all := lw_g (lw_at lw_m3 189 rfl) rfl

/-! jdk/internal/util/Preconditions -/
set_option maxRecDepth 100000
def RJ18 : String := "jdk/internal/util/Preconditions"
abbrev cJ18_checkIndex : ByteArray := prog_70_method_11_code
def yJ18_checkIndex : MethodName := ⟨RJ18, "checkIndex", "(IILjava/util/function/BiFunction;)I"⟩
def dkwJ18_checkIndex_0 : List UInt8 := [26, 155, 0, 8, 26, 27, 161, 0, 10, 44, 26, 27, 184, 0, 95, 191, 26, 172]
abbrev dktJ18_checkIndex_0 : List UInt8 := dkwJ18_checkIndex_0 ++ []
theorem dksJ18_checkIndex_0 : cJ18_checkIndex.data.toList.drop 0 = dktJ18_checkIndex_0 := by decide +kernel
theorem dJ18_checkIndex_0 : decode cJ18_checkIndex 0 = .ok (.iload_n 0, 1) := dk_26 (dk_at dksJ18_checkIndex_0 0 rfl rfl)
theorem dJ18_checkIndex_1 : decode cJ18_checkIndex 1 = .ok (.ifCond .lt 8, 3) := dk_155 0 8 (dk_at dksJ18_checkIndex_0 1 rfl rfl)
theorem dJ18_checkIndex_4 : decode cJ18_checkIndex 4 = .ok (.iload_n 0, 1) := dk_26 (dk_at dksJ18_checkIndex_0 4 rfl rfl)
theorem dJ18_checkIndex_5 : decode cJ18_checkIndex 5 = .ok (.iload_n 1, 1) := dk_27 (dk_at dksJ18_checkIndex_0 5 rfl rfl)
theorem dJ18_checkIndex_6 : decode cJ18_checkIndex 6 = .ok (.if_icmp .lt 10, 3) := dk_161 0 10 (dk_at dksJ18_checkIndex_0 6 rfl rfl)
theorem dJ18_checkIndex_9 : decode cJ18_checkIndex 9 = .ok (.aload_n 2, 1) := dk_44 (dk_at dksJ18_checkIndex_0 9 rfl rfl)
theorem dJ18_checkIndex_10 : decode cJ18_checkIndex 10 = .ok (.iload_n 0, 1) := dk_26 (dk_at dksJ18_checkIndex_0 10 rfl rfl)
theorem dJ18_checkIndex_11 : decode cJ18_checkIndex 11 = .ok (.iload_n 1, 1) := dk_27 (dk_at dksJ18_checkIndex_0 11 rfl rfl)
theorem dJ18_checkIndex_12 : decode cJ18_checkIndex 12 = .ok (.invokestatic 95, 3) := dk_184 0 95 (dk_at dksJ18_checkIndex_0 12 rfl rfl)
theorem dJ18_checkIndex_15 : decode cJ18_checkIndex 15 = .ok (.athrow, 1) := dk_191 (dk_at dksJ18_checkIndex_0 15 rfl rfl)
theorem dJ18_checkIndex_16 : decode cJ18_checkIndex 16 = .ok (.iload_n 0, 1) := dk_26 (dk_at dksJ18_checkIndex_0 16 rfl rfl)
theorem dJ18_checkIndex_17 : decode cJ18_checkIndex 17 = .ok (.ireturn, 1) := dk_172 (dk_at dksJ18_checkIndex_0 17 rfl rfl)
theorem q118 : (Jvm.Cond.initialized "jdk/internal/util/Preconditions") ∈ lw_all := lw_g (lw_at lw_m1 26 rfl) rfl
theorem q842 : (Jvm.Cond.laysStatic "jdk/internal/util/Preconditions" "SIOOBE_FORMATTER" "Ljava/util/function/BiFunction;") ∈ lw_tbl := lw_at lw_m4 30 rfl
theorem q844 : (Jvm.Cond.static ({ cls := "jdk/internal/util/Preconditions", name := "checkFromToIndex", desc := "(IIILjava/util/function/BiFunction;)I" } : Jvm.MethodName)) ∈ lw_all := lw_g (lw_at lw_m4 32 rfl) rfl
theorem q845 : (Jvm.Cond.code ({ cls := "jdk/internal/util/Preconditions", name := "checkFromToIndex", desc := "(IIILjava/util/function/BiFunction;)I" } : Jvm.MethodName) prog_70_method_12_code (4 : Nat) (Option.some Jvm.ClassFile.FieldType.int)) ∈ lw_all := lw_g (lw_at lw_m4 33 rfl) rfl
theorem q1195 : (Jvm.Cond.static ({ cls := "jdk/internal/util/Preconditions", name := "checkFromIndexSize", desc := "(IIILjava/util/function/BiFunction;)I" } : Jvm.MethodName)) ∈ lw_all := lw_g (lw_at lw_m5 143 rfl) rfl
theorem q1196 : (Jvm.Cond.code ({ cls := "jdk/internal/util/Preconditions", name := "checkFromIndexSize", desc := "(IIILjava/util/function/BiFunction;)I" } : Jvm.MethodName) prog_70_method_13_code (4 : Nat) (Option.some Jvm.ClassFile.FieldType.int)) ∈ lw_all := lw_g (lw_at lw_m5 144 rfl) rfl
theorem q1210 : (Jvm.Cond.static ({ cls := "jdk/internal/util/Preconditions", name := "checkIndex", desc := "(IILjava/util/function/BiFunction;)I" } : Jvm.MethodName)) ∈ lw_all := lw_g (lw_at lw_m5 158 rfl) rfl
theorem q1211 : (Jvm.Cond.code ({ cls := "jdk/internal/util/Preconditions", name := "checkIndex", desc := "(IILjava/util/function/BiFunction;)I" } : Jvm.MethodName) prog_70_method_11_code (3 : Nat) (Option.some Jvm.ClassFile.FieldType.int)) ∈ lw_all := lw_g (lw_at lw_m5 159 rfl) rfl

/-! java/util/HashMap$Node -/
set_option maxRecDepth 100000
def RJ19 : String := "java/util/HashMap$Node"
def TJ19 : u_T := fun k => match k with
  | 0 => ("java/util/HashMap$Node", "hash", "I", true)
  | 1 => ("java/util/HashMap$Node", "key", "Ljava/lang/Object;", true)
  | 2 => ("java/util/HashMap$Node", "value", "Ljava/lang/Object;", false)
  | _ => ("java/util/HashMap$Node", "next", "Ljava/util/HashMap$Node;", false)
def tyJ19 : Nat → FieldType := fun k => match k with
  | 0 => .int
  | 1 => .object "java/lang/Object"
  | 2 => .object "java/lang/Object"
  | _ => .object "java/util/HashMap$Node"
abbrev wsJ190 : List Cond := u_ws RJ19 TJ19 4
theorem nmJ19 : ∀ a, a < 4 → ∀ b, b < 4 → a ≠ b → (TJ19 a).2.1 ≠ (TJ19 b).2.1 := by decide +kernel
theorem tyJ19_ok : ∀ k, k < 4 → parseFieldDescriptor (TJ19 k).2.2.1 = some (tyJ19 k) := by decide +kernel
abbrev cJ19_init : ByteArray := prog_57_method_1_code
def yJ19_init : MethodName := ⟨RJ19, "<init>", "(ILjava/lang/Object;Ljava/lang/Object;Ljava/util/HashMap$Node;)V"⟩
def dkwJ19_init_1 : List UInt8 := [181, 0, 20, 177]
abbrev dktJ19_init_1 : List UInt8 := dkwJ19_init_1 ++ []
def dkwJ19_init_0 : List UInt8 := [42, 183, 0, 1, 42, 27, 181, 0, 7, 42, 44, 181, 0, 13, 42, 45, 181, 0, 17, 42, 25, 4]
abbrev dktJ19_init_0 : List UInt8 := dkwJ19_init_0 ++ dktJ19_init_1
theorem dksJ19_init_0 : cJ19_init.data.toList.drop 0 = dktJ19_init_0 := by decide +kernel
theorem dksJ19_init_1 : cJ19_init.data.toList.drop 22 = dktJ19_init_1 := dk_seg dksJ19_init_0 22 rfl rfl
theorem dJ19_init_0 : decode cJ19_init 0 = .ok (.aload_n 0, 1) := dk_42 (dk_at dksJ19_init_0 0 rfl rfl)
theorem dJ19_init_1 : decode cJ19_init 1 = .ok (.invokespecial 1, 3) := dk_183 0 1 (dk_at dksJ19_init_0 1 rfl rfl)
theorem dJ19_init_4 : decode cJ19_init 4 = .ok (.aload_n 0, 1) := dk_42 (dk_at dksJ19_init_0 4 rfl rfl)
theorem dJ19_init_5 : decode cJ19_init 5 = .ok (.iload_n 1, 1) := dk_27 (dk_at dksJ19_init_0 5 rfl rfl)
theorem dJ19_init_6 : decode cJ19_init 6 = .ok (.putfield 7, 3) := dk_181 0 7 (dk_at dksJ19_init_0 6 rfl rfl)
theorem dJ19_init_9 : decode cJ19_init 9 = .ok (.aload_n 0, 1) := dk_42 (dk_at dksJ19_init_0 9 rfl rfl)
theorem dJ19_init_10 : decode cJ19_init 10 = .ok (.aload_n 2, 1) := dk_44 (dk_at dksJ19_init_0 10 rfl rfl)
theorem dJ19_init_11 : decode cJ19_init 11 = .ok (.putfield 13, 3) := dk_181 0 13 (dk_at dksJ19_init_0 11 rfl rfl)
theorem dJ19_init_14 : decode cJ19_init 14 = .ok (.aload_n 0, 1) := dk_42 (dk_at dksJ19_init_0 14 rfl rfl)
theorem dJ19_init_15 : decode cJ19_init 15 = .ok (.aload_n 3, 1) := dk_45 (dk_at dksJ19_init_0 15 rfl rfl)
theorem dJ19_init_16 : decode cJ19_init 16 = .ok (.putfield 17, 3) := dk_181 0 17 (dk_at dksJ19_init_0 16 rfl rfl)
theorem dJ19_init_19 : decode cJ19_init 19 = .ok (.aload_n 0, 1) := dk_42 (dk_at dksJ19_init_0 19 rfl rfl)
theorem dJ19_init_20 : decode cJ19_init 20 = .ok (.aload 4, 2) := dk_25 4 (dk_at dksJ19_init_0 20 rfl rfl)
theorem dJ19_init_22 : decode cJ19_init 22 = .ok (.putfield 20, 3) := dk_181 0 20 (dk_at dksJ19_init_1 0 rfl rfl)
theorem dJ19_init_25 : decode cJ19_init 25 = .ok (.return_, 1) := dk_177 (dk_at dksJ19_init_1 3 rfl rfl)
theorem q119 : (Jvm.Cond.initialized "java/util/HashMap$Node") ∈ lw_all := lw_g (lw_at lw_m1 27 rfl) rfl
theorem q448 : (Jvm.Cond.selects "java/util/HashMap$Node" ({ cls := "java/lang/Object", name := "getClass", desc := "()Ljava/lang/Class;" } : Jvm.MethodName) ({ cls := "java/lang/Object", name := "getClass", desc := "()Ljava/lang/Class;" } : Jvm.MethodName)) ∈ lw_all := lw_g (lw_at lw_m2 116 rfl) rfl
theorem q884 : (Jvm.Cond.instantiable "java/util/HashMap$Node" (4 : Nat)) ∈ lw_all := lw_g (lw_at lw_m4 72 rfl) rfl
theorem q886 : (Jvm.Cond.instanceMethod ({ cls := "java/util/HashMap$Node", name := "<init>", desc := "(ILjava/lang/Object;Ljava/lang/Object;Ljava/util/HashMap$Node;)V" } : Jvm.MethodName)) ∈ lw_all := lw_g (lw_at lw_m4 74 rfl) rfl
theorem q887 : (Jvm.Cond.code ({ cls := "java/util/HashMap$Node", name := "<init>", desc := "(ILjava/lang/Object;Ljava/lang/Object;Ljava/util/HashMap$Node;)V" } : Jvm.MethodName) prog_57_method_1_code (5 : Nat) (Option.none : Option Jvm.ClassFile.FieldType)) ∈ lw_all := lw_g (lw_at lw_m4 75 rfl) rfl
theorem q888 : (Jvm.Cond.methodLink "java/util/HashMap$Node" (1 : Nat) ({ cls := "java/lang/Object", name := "<init>", desc := "()V" } : Jvm.MethodName)) ∈ lw_all := lw_g (lw_at lw_m4 76 rfl) rfl
theorem q889 : (Jvm.Cond.fieldLink "java/util/HashMap$Node" (7 : Nat) "java/util/HashMap$Node" "hash" "I") ∈ lw_all := lw_g (lw_at lw_m4 77 rfl) rfl
theorem q893 : (Jvm.Cond.fieldLink "java/util/HashMap$Node" (13 : Nat) "java/util/HashMap$Node" "key" "Ljava/lang/Object;") ∈ lw_all := lw_g (lw_at lw_m4 81 rfl) rfl
theorem q897 : (Jvm.Cond.fieldLink "java/util/HashMap$Node" (17 : Nat) "java/util/HashMap$Node" "value" "Ljava/lang/Object;") ∈ lw_all := lw_g (lw_at lw_m4 85 rfl) rfl
theorem q899 : (Jvm.Cond.fieldLink "java/util/HashMap$Node" (20 : Nat) "java/util/HashMap$Node" "next" "Ljava/util/HashMap$Node;") ∈ lw_all := lw_g (lw_at lw_m4 87 rfl) rfl
theorem q905 : (Jvm.Cond.laysFinal "java/util/HashMap$Node" "java/util/HashMap$Node" "hash" "I") ∈ lw_all := lw_g (lw_at lw_m4 93 rfl) rfl
theorem q906 : (Jvm.Cond.soleField "java/util/HashMap$Node" "hash") ∈ lw_all := lw_g (lw_at lw_m4 94 rfl) rfl
theorem q907 : (Jvm.Cond.laysFinal "java/util/HashMap$Node" "java/util/HashMap$Node" "key" "Ljava/lang/Object;") ∈ lw_all := lw_g (lw_at lw_m4 95 rfl) rfl
theorem q908 : (Jvm.Cond.soleField "java/util/HashMap$Node" "key") ∈ lw_all := lw_g (lw_at lw_m4 96 rfl) rfl
theorem q909 : (Jvm.Cond.lays "java/util/HashMap$Node" "java/util/HashMap$Node" "value" "Ljava/lang/Object;") ∈ lw_all := lw_g (lw_at lw_m4 97 rfl) rfl
theorem q910 : (Jvm.Cond.soleField "java/util/HashMap$Node" "value") ∈ lw_all := lw_g (lw_at lw_m4 98 rfl) rfl
theorem q911 : (Jvm.Cond.lays "java/util/HashMap$Node" "java/util/HashMap$Node" "next" "Ljava/util/HashMap$Node;") ∈ lw_all := lw_g (lw_at lw_m4 99 rfl) rfl
theorem q912 : (Jvm.Cond.soleField "java/util/HashMap$Node" "next") ∈ lw_all := lw_g (lw_at lw_m4 100 rfl) rfl
theorem q913 : (Jvm.Cond.superclass "java/util/HashMap$Node" "java/lang/Object") ∈ lw_all := lw_g (lw_at lw_m4 101 rfl) rfl
theorem q2934 : (Jvm.Cond.castable "java/util/HashMap$Node" "java/lang/Object") ∈ lw_tbl := lw_at lw_m12 202 rfl
theorem in_J19 : ∀ w ∈ wsJ190, w ∈ lw_all := lw_in wsJ190 [905, 907, 909, 911] (by decide +kernel) (by decide +kernel)

/-! java/lang/RuntimeException -/
set_option maxRecDepth 100000
def RJ2 : String := "java/lang/RuntimeException"
abbrev cJ2_init : ByteArray := prog_40_method_5_code
def yJ2_init : MethodName := ⟨RJ2, "<init>", "(Ljava/lang/String;Ljava/lang/Throwable;ZZ)V"⟩
def dkwJ2_init_0 : List UInt8 := [42, 43, 44, 29, 21, 4, 183, 0, 16, 177]
abbrev dktJ2_init_0 : List UInt8 := dkwJ2_init_0 ++ []
theorem dksJ2_init_0 : cJ2_init.data.toList.drop 0 = dktJ2_init_0 := by decide +kernel
theorem dJ2_init_0 : decode cJ2_init 0 = .ok (.aload_n 0, 1) := dk_42 (dk_at dksJ2_init_0 0 rfl rfl)
theorem dJ2_init_1 : decode cJ2_init 1 = .ok (.aload_n 1, 1) := dk_43 (dk_at dksJ2_init_0 1 rfl rfl)
theorem dJ2_init_2 : decode cJ2_init 2 = .ok (.aload_n 2, 1) := dk_44 (dk_at dksJ2_init_0 2 rfl rfl)
theorem dJ2_init_3 : decode cJ2_init 3 = .ok (.iload_n 3, 1) := dk_29 (dk_at dksJ2_init_0 3 rfl rfl)
theorem dJ2_init_4 : decode cJ2_init 4 = .ok (.iload 4, 2) := dk_21 4 (dk_at dksJ2_init_0 4 rfl rfl)
theorem dJ2_init_6 : decode cJ2_init 6 = .ok (.invokespecial 16, 3) := dk_183 0 16 (dk_at dksJ2_init_0 6 rfl rfl)
theorem dJ2_init_9 : decode cJ2_init 9 = .ok (.return_, 1) := dk_177 (dk_at dksJ2_init_0 9 rfl rfl)
theorem q97 : (Jvm.Cond.initialized "java/lang/RuntimeException") ∈ lw_all := lw_g (lw_at lw_m1 5 rfl) rfl
theorem q163 : (Jvm.Cond.declares ({ cls := "java/lang/RuntimeException", name := "<init>", desc := "()V" } : Jvm.MethodName)) ∈ lw_tbl := lw_at lw_m1 71 rfl
theorem q164 : (Jvm.Cond.declares ({ cls := "java/lang/RuntimeException", name := "<init>", desc := "(Ljava/lang/String;)V" } : Jvm.MethodName)) ∈ lw_tbl := lw_at lw_m1 72 rfl
theorem q203 : (Jvm.Cond.instanceMethod ({ cls := "java/lang/RuntimeException", name := "<init>", desc := "(Ljava/lang/String;Ljava/lang/Throwable;ZZ)V" } : Jvm.MethodName)) ∈ lw_all := lw_g (lw_at lw_m1 111 rfl) rfl
theorem q204 : (Jvm.Cond.code ({ cls := "java/lang/RuntimeException", name := "<init>", desc := "(Ljava/lang/String;Ljava/lang/Throwable;ZZ)V" } : Jvm.MethodName) prog_40_method_5_code (5 : Nat) (Option.none : Option Jvm.ClassFile.FieldType)) ∈ lw_all := lw_g (lw_at lw_m1 112 rfl) rfl
theorem q205 : (Jvm.Cond.methodLink "java/lang/RuntimeException" (16 : Nat) ({ cls := "java/lang/Exception", name := "<init>", desc := "(Ljava/lang/String;Ljava/lang/Throwable;ZZ)V" } : Jvm.MethodName)) ∈ lw_all := lw_g (lw_at lw_m1 113 rfl) rfl

/-! java/util/LinkedHashMap$Entry -/
set_option maxRecDepth 100000
def RJ20 : String := "java/util/LinkedHashMap$Entry"
abbrev cJ20_init : ByteArray := prog_59_method_1_code
def yJ20_init : MethodName := ⟨RJ20, "<init>", "(ILjava/lang/Object;Ljava/lang/Object;Ljava/util/HashMap$Node;)V"⟩
def dkwJ20_init_0 : List UInt8 := [42, 27, 44, 45, 25, 4, 183, 0, 1, 177]
abbrev dktJ20_init_0 : List UInt8 := dkwJ20_init_0 ++ []
theorem dksJ20_init_0 : cJ20_init.data.toList.drop 0 = dktJ20_init_0 := by decide +kernel
theorem dJ20_init_0 : decode cJ20_init 0 = .ok (.aload_n 0, 1) := dk_42 (dk_at dksJ20_init_0 0 rfl rfl)
theorem dJ20_init_1 : decode cJ20_init 1 = .ok (.iload_n 1, 1) := dk_27 (dk_at dksJ20_init_0 1 rfl rfl)
theorem dJ20_init_2 : decode cJ20_init 2 = .ok (.aload_n 2, 1) := dk_44 (dk_at dksJ20_init_0 2 rfl rfl)
theorem dJ20_init_3 : decode cJ20_init 3 = .ok (.aload_n 3, 1) := dk_45 (dk_at dksJ20_init_0 3 rfl rfl)
theorem dJ20_init_4 : decode cJ20_init 4 = .ok (.aload 4, 2) := dk_25 4 (dk_at dksJ20_init_0 4 rfl rfl)
theorem dJ20_init_6 : decode cJ20_init 6 = .ok (.invokespecial 1, 3) := dk_183 0 1 (dk_at dksJ20_init_0 6 rfl rfl)
theorem dJ20_init_9 : decode cJ20_init 9 = .ok (.return_, 1) := dk_177 (dk_at dksJ20_init_0 9 rfl rfl)
theorem q120 : (Jvm.Cond.initialized "java/util/LinkedHashMap$Entry") ∈ lw_all := lw_g (lw_at lw_m1 28 rfl) rfl
theorem q949 : (Jvm.Cond.instanceMethod ({ cls := "java/util/LinkedHashMap$Entry", name := "<init>", desc := "(ILjava/lang/Object;Ljava/lang/Object;Ljava/util/HashMap$Node;)V" } : Jvm.MethodName)) ∈ lw_all := lw_g (lw_at lw_m4 137 rfl) rfl
theorem q950 : (Jvm.Cond.code ({ cls := "java/util/LinkedHashMap$Entry", name := "<init>", desc := "(ILjava/lang/Object;Ljava/lang/Object;Ljava/util/HashMap$Node;)V" } : Jvm.MethodName) prog_59_method_1_code (5 : Nat) (Option.none : Option Jvm.ClassFile.FieldType)) ∈ lw_all := lw_g (lw_at lw_m4 138 rfl) rfl
theorem q951 : (Jvm.Cond.methodLink "java/util/LinkedHashMap$Entry" (1 : Nat) ({ cls := "java/util/HashMap$Node", name := "<init>", desc := "(ILjava/lang/Object;Ljava/lang/Object;Ljava/util/HashMap$Node;)V" } : Jvm.MethodName)) ∈ lw_all := lw_g (lw_at lw_m4 139 rfl) rfl
theorem q969 : (Jvm.Cond.soleField "java/util/LinkedHashMap$Entry" "before") ∈ lw_all := lw_g (lw_at lw_m4 157 rfl) rfl
theorem q971 : (Jvm.Cond.soleField "java/util/LinkedHashMap$Entry" "after") ∈ lw_all := lw_g (lw_at lw_m4 159 rfl) rfl

/-! java/util/HashMap$TreeNode -/
set_option maxRecDepth 100000
def RJ21 : String := "java/util/HashMap$TreeNode"
def TJ21 : u_T := fun k => match k with
  | 0 => ("java/util/LinkedHashMap$Entry", "before", "Ljava/util/LinkedHashMap$Entry;", false)
  | 1 => ("java/util/LinkedHashMap$Entry", "after", "Ljava/util/LinkedHashMap$Entry;", false)
  | 2 => ("java/util/HashMap$Node", "hash", "I", true)
  | 3 => ("java/util/HashMap$Node", "key", "Ljava/lang/Object;", true)
  | 4 => ("java/util/HashMap$Node", "value", "Ljava/lang/Object;", false)
  | 5 => ("java/util/HashMap$Node", "next", "Ljava/util/HashMap$Node;", false)
  | 6 => ("java/util/HashMap$TreeNode", "parent", "Ljava/util/HashMap$TreeNode;", false)
  | 7 => ("java/util/HashMap$TreeNode", "left", "Ljava/util/HashMap$TreeNode;", false)
  | 8 => ("java/util/HashMap$TreeNode", "right", "Ljava/util/HashMap$TreeNode;", false)
  | 9 => ("java/util/HashMap$TreeNode", "prev", "Ljava/util/HashMap$TreeNode;", false)
  | _ => ("java/util/HashMap$TreeNode", "red", "Z", false)
def tyJ21 : Nat → FieldType := fun k => match k with
  | 0 => .object "java/util/LinkedHashMap$Entry"
  | 1 => .object "java/util/LinkedHashMap$Entry"
  | 2 => .int
  | 3 => .object "java/lang/Object"
  | 4 => .object "java/lang/Object"
  | 5 => .object "java/util/HashMap$Node"
  | 6 => .object "java/util/HashMap$TreeNode"
  | 7 => .object "java/util/HashMap$TreeNode"
  | 8 => .object "java/util/HashMap$TreeNode"
  | 9 => .object "java/util/HashMap$TreeNode"
  | _ => .boolean
abbrev wsJ210 : List Cond := u_ws RJ21 TJ21 11
theorem nmJ21 : ∀ a, a < 11 → ∀ b, b < 11 → a ≠ b → (TJ21 a).2.1 ≠ (TJ21 b).2.1 := by decide +kernel
theorem tyJ21_ok : ∀ k, k < 11 → parseFieldDescriptor (TJ21 k).2.2.1 = some (tyJ21 k) := by decide +kernel
abbrev cJ21_getTreeNode : ByteArray := prog_58_method_5_code
def yJ21_getTreeNode : MethodName := ⟨RJ21, "getTreeNode", "(ILjava/lang/Object;)Ljava/util/HashMap$TreeNode;"⟩
def dkwJ21_getTreeNode_0 : List UInt8 := [42, 180, 0, 9, 198, 0, 10, 42, 182, 0, 67, 167, 0, 4, 42, 27, 44, 1, 182, 0, 63, 176]
abbrev dktJ21_getTreeNode_0 : List UInt8 := dkwJ21_getTreeNode_0 ++ []
theorem dksJ21_getTreeNode_0 : cJ21_getTreeNode.data.toList.drop 0 = dktJ21_getTreeNode_0 := by decide +kernel
theorem dJ21_getTreeNode_0 : decode cJ21_getTreeNode 0 = .ok (.aload_n 0, 1) := dk_42 (dk_at dksJ21_getTreeNode_0 0 rfl rfl)
theorem dJ21_getTreeNode_1 : decode cJ21_getTreeNode 1 = .ok (.getfield 9, 3) := dk_180 0 9 (dk_at dksJ21_getTreeNode_0 1 rfl rfl)
theorem dJ21_getTreeNode_4 : decode cJ21_getTreeNode 4 = .ok (.ifnull 10, 3) := dk_198 0 10 (dk_at dksJ21_getTreeNode_0 4 rfl rfl)
theorem dJ21_getTreeNode_7 : decode cJ21_getTreeNode 7 = .ok (.aload_n 0, 1) := dk_42 (dk_at dksJ21_getTreeNode_0 7 rfl rfl)
theorem dJ21_getTreeNode_8 : decode cJ21_getTreeNode 8 = .ok (.invokevirtual 67, 3) := dk_182 0 67 (dk_at dksJ21_getTreeNode_0 8 rfl rfl)
theorem dJ21_getTreeNode_11 : decode cJ21_getTreeNode 11 = .ok (.goto 4, 3) := dk_167 0 4 (dk_at dksJ21_getTreeNode_0 11 rfl rfl)
theorem dJ21_getTreeNode_14 : decode cJ21_getTreeNode 14 = .ok (.aload_n 0, 1) := dk_42 (dk_at dksJ21_getTreeNode_0 14 rfl rfl)
theorem dJ21_getTreeNode_15 : decode cJ21_getTreeNode 15 = .ok (.iload_n 1, 1) := dk_27 (dk_at dksJ21_getTreeNode_0 15 rfl rfl)
theorem dJ21_getTreeNode_16 : decode cJ21_getTreeNode 16 = .ok (.aload_n 2, 1) := dk_44 (dk_at dksJ21_getTreeNode_0 16 rfl rfl)
theorem dJ21_getTreeNode_17 : decode cJ21_getTreeNode 17 = .ok (.aconst_null, 1) := dk_1 (dk_at dksJ21_getTreeNode_0 17 rfl rfl)
theorem dJ21_getTreeNode_18 : decode cJ21_getTreeNode 18 = .ok (.invokevirtual 63, 3) := dk_182 0 63 (dk_at dksJ21_getTreeNode_0 18 rfl rfl)
theorem dJ21_getTreeNode_21 : decode cJ21_getTreeNode 21 = .ok (.areturn, 1) := dk_176 (dk_at dksJ21_getTreeNode_0 21 rfl rfl)
abbrev cJ21_root : ByteArray := prog_58_method_2_code
def yJ21_root : MethodName := ⟨RJ21, "root", "()Ljava/util/HashMap$TreeNode;"⟩
def dkwJ21_root_0 : List UInt8 := [42, 76, 43, 180, 0, 9, 89, 77, 199, 0, 5, 43, 176, 44, 76, 167, 255, 243]
abbrev dktJ21_root_0 : List UInt8 := dkwJ21_root_0 ++ []
theorem dksJ21_root_0 : cJ21_root.data.toList.drop 0 = dktJ21_root_0 := by decide +kernel
theorem dJ21_root_0 : decode cJ21_root 0 = .ok (.aload_n 0, 1) := dk_42 (dk_at dksJ21_root_0 0 rfl rfl)
theorem dJ21_root_1 : decode cJ21_root 1 = .ok (.astore_n 1, 1) := dk_76 (dk_at dksJ21_root_0 1 rfl rfl)
theorem dJ21_root_2 : decode cJ21_root 2 = .ok (.aload_n 1, 1) := dk_43 (dk_at dksJ21_root_0 2 rfl rfl)
theorem dJ21_root_3 : decode cJ21_root 3 = .ok (.getfield 9, 3) := dk_180 0 9 (dk_at dksJ21_root_0 3 rfl rfl)
theorem dJ21_root_6 : decode cJ21_root 6 = .ok (.dup, 1) := dk_89 (dk_at dksJ21_root_0 6 rfl rfl)
theorem dJ21_root_7 : decode cJ21_root 7 = .ok (.astore_n 2, 1) := dk_77 (dk_at dksJ21_root_0 7 rfl rfl)
theorem dJ21_root_8 : decode cJ21_root 8 = .ok (.ifnonnull 5, 3) := dk_199 0 5 (dk_at dksJ21_root_0 8 rfl rfl)
theorem dJ21_root_11 : decode cJ21_root 11 = .ok (.aload_n 1, 1) := dk_43 (dk_at dksJ21_root_0 11 rfl rfl)
theorem dJ21_root_12 : decode cJ21_root 12 = .ok (.areturn, 1) := dk_176 (dk_at dksJ21_root_0 12 rfl rfl)
theorem dJ21_root_13 : decode cJ21_root 13 = .ok (.aload_n 2, 1) := dk_44 (dk_at dksJ21_root_0 13 rfl rfl)
theorem dJ21_root_14 : decode cJ21_root 14 = .ok (.astore_n 1, 1) := dk_76 (dk_at dksJ21_root_0 14 rfl rfl)
theorem dJ21_root_15 : decode cJ21_root 15 = .ok (.goto (-13), 3) := dk_167 255 243 (dk_at dksJ21_root_0 15 rfl rfl)
abbrev cJ21_find : ByteArray := prog_58_method_4_code
def yJ21_find : MethodName := ⟨RJ21, "find", "(ILjava/lang/Object;Ljava/lang/Class;)Ljava/util/HashMap$TreeNode;"⟩
def dkwJ21_find_7 : List UInt8 := [58, 4, 25, 4, 199, 255, 92, 1, 176]
abbrev dktJ21_find_7 : List UInt8 := dkwJ21_find_7 ++ []
def dkwJ21_find_6 : List UInt8 := [58, 4, 167, 0, 24, 25, 9, 27, 44, 45, 182, 0, 63, 89, 58, 10, 198, 0, 6, 25, 10, 176, 25, 8]
abbrev dktJ21_find_6 : List UInt8 := dkwJ21_find_6 ++ dktJ21_find_7
def dkwJ21_find_5 : List UInt8 := [44, 25, 7, 184, 0, 59, 89, 54, 6, 153, 0, 20, 21, 6, 156, 0, 8, 25, 8, 167, 0, 5, 25, 9]
abbrev dktJ21_find_5 : List UInt8 := dkwJ21_find_5 ++ dktJ21_find_6
def dkwJ21_find_4 : List UInt8 := [199, 0, 10, 25, 8, 58, 4, 167, 0, 67, 45, 199, 0, 12, 44, 184, 0, 55, 89, 78, 198, 0, 33, 45]
abbrev dktJ21_find_4 : List UInt8 := dkwJ21_find_4 ++ dktJ21_find_5
def dkwJ21_find_3 : List UInt8 := [182, 0, 49, 153, 0, 6, 25, 4, 176, 25, 8, 199, 0, 10, 25, 9, 58, 4, 167, 0, 79, 25, 9]
abbrev dktJ21_find_3 : List UInt8 := dkwJ21_find_3 ++ dktJ21_find_4
def dkwJ21_find_2 : List UInt8 := [167, 0, 119, 25, 4, 180, 0, 45, 89, 58, 7, 44, 165, 0, 16, 44, 198, 0, 15, 44, 25, 7]
abbrev dktJ21_find_2 : List UInt8 := dkwJ21_find_2 ++ dktJ21_find_3
def dkwJ21_find_1 : List UInt8 := [54, 5, 27, 164, 0, 10, 25, 8, 58, 4, 167, 0, 132, 21, 5, 27, 162, 0, 10, 25, 9, 58, 4]
abbrev dktJ21_find_1 : List UInt8 := dkwJ21_find_1 ++ dktJ21_find_2
def dkwJ21_find_0 : List UInt8 := [42, 58, 4, 25, 4, 180, 0, 39, 58, 8, 25, 4, 180, 0, 42, 58, 9, 25, 4, 180, 0, 15, 89]
abbrev dktJ21_find_0 : List UInt8 := dkwJ21_find_0 ++ dktJ21_find_1
theorem dksJ21_find_0 : cJ21_find.data.toList.drop 0 = dktJ21_find_0 := by decide +kernel
theorem dksJ21_find_1 : cJ21_find.data.toList.drop 23 = dktJ21_find_1 := dk_seg dksJ21_find_0 23 rfl rfl
theorem dksJ21_find_2 : cJ21_find.data.toList.drop 46 = dktJ21_find_2 := dk_seg dksJ21_find_1 23 rfl rfl
theorem dksJ21_find_3 : cJ21_find.data.toList.drop 68 = dktJ21_find_3 := dk_seg dksJ21_find_2 22 rfl rfl
theorem dksJ21_find_4 : cJ21_find.data.toList.drop 91 = dktJ21_find_4 := dk_seg dksJ21_find_3 23 rfl rfl
theorem dksJ21_find_5 : cJ21_find.data.toList.drop 115 = dktJ21_find_5 := dk_seg dksJ21_find_4 24 rfl rfl
theorem dksJ21_find_6 : cJ21_find.data.toList.drop 139 = dktJ21_find_6 := dk_seg dksJ21_find_5 24 rfl rfl
theorem dksJ21_find_7 : cJ21_find.data.toList.drop 163 = dktJ21_find_7 := dk_seg dksJ21_find_6 24 rfl rfl
theorem dJ21_find_0 : decode cJ21_find 0 = .ok (.aload_n 0, 1) := dk_42 (dk_at dksJ21_find_0 0 rfl rfl)
theorem dJ21_find_1 : decode cJ21_find 1 = .ok (.astore 4, 2) := dk_58 4 (dk_at dksJ21_find_0 1 rfl rfl)
theorem dJ21_find_3 : decode cJ21_find 3 = .ok (.aload 4, 2) := dk_25 4 (dk_at dksJ21_find_0 3 rfl rfl)
theorem dJ21_find_5 : decode cJ21_find 5 = .ok (.getfield 39, 3) := dk_180 0 39 (dk_at dksJ21_find_0 5 rfl rfl)
theorem dJ21_find_8 : decode cJ21_find 8 = .ok (.astore 8, 2) := dk_58 8 (dk_at dksJ21_find_0 8 rfl rfl)
theorem dJ21_find_10 : decode cJ21_find 10 = .ok (.aload 4, 2) := dk_25 4 (dk_at dksJ21_find_0 10 rfl rfl)
theorem dJ21_find_12 : decode cJ21_find 12 = .ok (.getfield 42, 3) := dk_180 0 42 (dk_at dksJ21_find_0 12 rfl rfl)
theorem dJ21_find_15 : decode cJ21_find 15 = .ok (.astore 9, 2) := dk_58 9 (dk_at dksJ21_find_0 15 rfl rfl)
theorem dJ21_find_17 : decode cJ21_find 17 = .ok (.aload 4, 2) := dk_25 4 (dk_at dksJ21_find_0 17 rfl rfl)
theorem dJ21_find_19 : decode cJ21_find 19 = .ok (.getfield 15, 3) := dk_180 0 15 (dk_at dksJ21_find_0 19 rfl rfl)
theorem dJ21_find_22 : decode cJ21_find 22 = .ok (.dup, 1) := dk_89 (dk_at dksJ21_find_0 22 rfl rfl)
theorem dJ21_find_23 : decode cJ21_find 23 = .ok (.istore 5, 2) := dk_54 5 (dk_at dksJ21_find_1 0 rfl rfl)
theorem dJ21_find_25 : decode cJ21_find 25 = .ok (.iload_n 1, 1) := dk_27 (dk_at dksJ21_find_1 2 rfl rfl)
theorem dJ21_find_26 : decode cJ21_find 26 = .ok (.if_icmp .le 10, 3) := dk_164 0 10 (dk_at dksJ21_find_1 3 rfl rfl)
theorem dJ21_find_29 : decode cJ21_find 29 = .ok (.aload 8, 2) := dk_25 8 (dk_at dksJ21_find_1 6 rfl rfl)
theorem dJ21_find_31 : decode cJ21_find 31 = .ok (.astore 4, 2) := dk_58 4 (dk_at dksJ21_find_1 8 rfl rfl)
theorem dJ21_find_33 : decode cJ21_find 33 = .ok (.goto 132, 3) := dk_167 0 132 (dk_at dksJ21_find_1 10 rfl rfl)
theorem dJ21_find_36 : decode cJ21_find 36 = .ok (.iload 5, 2) := dk_21 5 (dk_at dksJ21_find_1 13 rfl rfl)
theorem dJ21_find_38 : decode cJ21_find 38 = .ok (.iload_n 1, 1) := dk_27 (dk_at dksJ21_find_1 15 rfl rfl)
theorem dJ21_find_39 : decode cJ21_find 39 = .ok (.if_icmp .ge 10, 3) := dk_162 0 10 (dk_at dksJ21_find_1 16 rfl rfl)
theorem dJ21_find_42 : decode cJ21_find 42 = .ok (.aload 9, 2) := dk_25 9 (dk_at dksJ21_find_1 19 rfl rfl)
theorem dJ21_find_44 : decode cJ21_find 44 = .ok (.astore 4, 2) := dk_58 4 (dk_at dksJ21_find_1 21 rfl rfl)
theorem dJ21_find_46 : decode cJ21_find 46 = .ok (.goto 119, 3) := dk_167 0 119 (dk_at dksJ21_find_2 0 rfl rfl)
theorem dJ21_find_49 : decode cJ21_find 49 = .ok (.aload 4, 2) := dk_25 4 (dk_at dksJ21_find_2 3 rfl rfl)
theorem dJ21_find_51 : decode cJ21_find 51 = .ok (.getfield 45, 3) := dk_180 0 45 (dk_at dksJ21_find_2 5 rfl rfl)
theorem dJ21_find_54 : decode cJ21_find 54 = .ok (.dup, 1) := dk_89 (dk_at dksJ21_find_2 8 rfl rfl)
theorem dJ21_find_55 : decode cJ21_find 55 = .ok (.astore 7, 2) := dk_58 7 (dk_at dksJ21_find_2 9 rfl rfl)
theorem dJ21_find_57 : decode cJ21_find 57 = .ok (.aload_n 2, 1) := dk_44 (dk_at dksJ21_find_2 11 rfl rfl)
theorem dJ21_find_58 : decode cJ21_find 58 = .ok (.if_acmp .eq 16, 3) := dk_165 0 16 (dk_at dksJ21_find_2 12 rfl rfl)
theorem dJ21_find_61 : decode cJ21_find 61 = .ok (.aload_n 2, 1) := dk_44 (dk_at dksJ21_find_2 15 rfl rfl)
theorem dJ21_find_62 : decode cJ21_find 62 = .ok (.ifnull 15, 3) := dk_198 0 15 (dk_at dksJ21_find_2 16 rfl rfl)
theorem dJ21_find_65 : decode cJ21_find 65 = .ok (.aload_n 2, 1) := dk_44 (dk_at dksJ21_find_2 19 rfl rfl)
theorem dJ21_find_66 : decode cJ21_find 66 = .ok (.aload 7, 2) := dk_25 7 (dk_at dksJ21_find_2 20 rfl rfl)
theorem dJ21_find_68 : decode cJ21_find 68 = .ok (.invokevirtual 49, 3) := dk_182 0 49 (dk_at dksJ21_find_3 0 rfl rfl)
theorem dJ21_find_71 : decode cJ21_find 71 = .ok (.ifCond .eq 6, 3) := dk_153 0 6 (dk_at dksJ21_find_3 3 rfl rfl)
theorem dJ21_find_74 : decode cJ21_find 74 = .ok (.aload 4, 2) := dk_25 4 (dk_at dksJ21_find_3 6 rfl rfl)
theorem dJ21_find_76 : decode cJ21_find 76 = .ok (.areturn, 1) := dk_176 (dk_at dksJ21_find_3 8 rfl rfl)
theorem dJ21_find_77 : decode cJ21_find 77 = .ok (.aload 8, 2) := dk_25 8 (dk_at dksJ21_find_3 9 rfl rfl)
theorem dJ21_find_79 : decode cJ21_find 79 = .ok (.ifnonnull 10, 3) := dk_199 0 10 (dk_at dksJ21_find_3 11 rfl rfl)
theorem dJ21_find_82 : decode cJ21_find 82 = .ok (.aload 9, 2) := dk_25 9 (dk_at dksJ21_find_3 14 rfl rfl)
theorem dJ21_find_84 : decode cJ21_find 84 = .ok (.astore 4, 2) := dk_58 4 (dk_at dksJ21_find_3 16 rfl rfl)
theorem dJ21_find_86 : decode cJ21_find 86 = .ok (.goto 79, 3) := dk_167 0 79 (dk_at dksJ21_find_3 18 rfl rfl)
theorem dJ21_find_89 : decode cJ21_find 89 = .ok (.aload 9, 2) := dk_25 9 (dk_at dksJ21_find_3 21 rfl rfl)
theorem dJ21_find_91 : decode cJ21_find 91 = .ok (.ifnonnull 10, 3) := dk_199 0 10 (dk_at dksJ21_find_4 0 rfl rfl)
theorem dJ21_find_94 : decode cJ21_find 94 = .ok (.aload 8, 2) := dk_25 8 (dk_at dksJ21_find_4 3 rfl rfl)
theorem dJ21_find_96 : decode cJ21_find 96 = .ok (.astore 4, 2) := dk_58 4 (dk_at dksJ21_find_4 5 rfl rfl)
theorem dJ21_find_98 : decode cJ21_find 98 = .ok (.goto 67, 3) := dk_167 0 67 (dk_at dksJ21_find_4 7 rfl rfl)
theorem dJ21_find_101 : decode cJ21_find 101 = .ok (.aload_n 3, 1) := dk_45 (dk_at dksJ21_find_4 10 rfl rfl)
theorem dJ21_find_102 : decode cJ21_find 102 = .ok (.ifnonnull 12, 3) := dk_199 0 12 (dk_at dksJ21_find_4 11 rfl rfl)
theorem dJ21_find_105 : decode cJ21_find 105 = .ok (.aload_n 2, 1) := dk_44 (dk_at dksJ21_find_4 14 rfl rfl)
theorem dJ21_find_106 : decode cJ21_find 106 = .ok (.invokestatic 55, 3) := dk_184 0 55 (dk_at dksJ21_find_4 15 rfl rfl)
theorem dJ21_find_109 : decode cJ21_find 109 = .ok (.dup, 1) := dk_89 (dk_at dksJ21_find_4 18 rfl rfl)
theorem dJ21_find_110 : decode cJ21_find 110 = .ok (.astore_n 3, 1) := dk_78 (dk_at dksJ21_find_4 19 rfl rfl)
theorem dJ21_find_111 : decode cJ21_find 111 = .ok (.ifnull 33, 3) := dk_198 0 33 (dk_at dksJ21_find_4 20 rfl rfl)
theorem dJ21_find_114 : decode cJ21_find 114 = .ok (.aload_n 3, 1) := dk_45 (dk_at dksJ21_find_4 23 rfl rfl)
theorem dJ21_find_115 : decode cJ21_find 115 = .ok (.aload_n 2, 1) := dk_44 (dk_at dksJ21_find_5 0 rfl rfl)
theorem dJ21_find_116 : decode cJ21_find 116 = .ok (.aload 7, 2) := dk_25 7 (dk_at dksJ21_find_5 1 rfl rfl)
theorem dJ21_find_118 : decode cJ21_find 118 = .ok (.invokestatic 59, 3) := dk_184 0 59 (dk_at dksJ21_find_5 3 rfl rfl)
theorem dJ21_find_121 : decode cJ21_find 121 = .ok (.dup, 1) := dk_89 (dk_at dksJ21_find_5 6 rfl rfl)
theorem dJ21_find_122 : decode cJ21_find 122 = .ok (.istore 6, 2) := dk_54 6 (dk_at dksJ21_find_5 7 rfl rfl)
theorem dJ21_find_124 : decode cJ21_find 124 = .ok (.ifCond .eq 20, 3) := dk_153 0 20 (dk_at dksJ21_find_5 9 rfl rfl)
theorem dJ21_find_127 : decode cJ21_find 127 = .ok (.iload 6, 2) := dk_21 6 (dk_at dksJ21_find_5 12 rfl rfl)
theorem dJ21_find_129 : decode cJ21_find 129 = .ok (.ifCond .ge 8, 3) := dk_156 0 8 (dk_at dksJ21_find_5 14 rfl rfl)
theorem dJ21_find_132 : decode cJ21_find 132 = .ok (.aload 8, 2) := dk_25 8 (dk_at dksJ21_find_5 17 rfl rfl)
theorem dJ21_find_134 : decode cJ21_find 134 = .ok (.goto 5, 3) := dk_167 0 5 (dk_at dksJ21_find_5 19 rfl rfl)
theorem dJ21_find_137 : decode cJ21_find 137 = .ok (.aload 9, 2) := dk_25 9 (dk_at dksJ21_find_5 22 rfl rfl)
theorem dJ21_find_139 : decode cJ21_find 139 = .ok (.astore 4, 2) := dk_58 4 (dk_at dksJ21_find_6 0 rfl rfl)
theorem dJ21_find_141 : decode cJ21_find 141 = .ok (.goto 24, 3) := dk_167 0 24 (dk_at dksJ21_find_6 2 rfl rfl)
theorem dJ21_find_144 : decode cJ21_find 144 = .ok (.aload 9, 2) := dk_25 9 (dk_at dksJ21_find_6 5 rfl rfl)
theorem dJ21_find_146 : decode cJ21_find 146 = .ok (.iload_n 1, 1) := dk_27 (dk_at dksJ21_find_6 7 rfl rfl)
theorem dJ21_find_147 : decode cJ21_find 147 = .ok (.aload_n 2, 1) := dk_44 (dk_at dksJ21_find_6 8 rfl rfl)
theorem dJ21_find_148 : decode cJ21_find 148 = .ok (.aload_n 3, 1) := dk_45 (dk_at dksJ21_find_6 9 rfl rfl)
theorem dJ21_find_149 : decode cJ21_find 149 = .ok (.invokevirtual 63, 3) := dk_182 0 63 (dk_at dksJ21_find_6 10 rfl rfl)
theorem dJ21_find_152 : decode cJ21_find 152 = .ok (.dup, 1) := dk_89 (dk_at dksJ21_find_6 13 rfl rfl)
theorem dJ21_find_153 : decode cJ21_find 153 = .ok (.astore 10, 2) := dk_58 10 (dk_at dksJ21_find_6 14 rfl rfl)
theorem dJ21_find_155 : decode cJ21_find 155 = .ok (.ifnull 6, 3) := dk_198 0 6 (dk_at dksJ21_find_6 16 rfl rfl)
theorem dJ21_find_158 : decode cJ21_find 158 = .ok (.aload 10, 2) := dk_25 10 (dk_at dksJ21_find_6 19 rfl rfl)
theorem dJ21_find_160 : decode cJ21_find 160 = .ok (.areturn, 1) := dk_176 (dk_at dksJ21_find_6 21 rfl rfl)
theorem dJ21_find_161 : decode cJ21_find 161 = .ok (.aload 8, 2) := dk_25 8 (dk_at dksJ21_find_6 22 rfl rfl)
theorem dJ21_find_163 : decode cJ21_find 163 = .ok (.astore 4, 2) := dk_58 4 (dk_at dksJ21_find_7 0 rfl rfl)
theorem dJ21_find_165 : decode cJ21_find 165 = .ok (.aload 4, 2) := dk_25 4 (dk_at dksJ21_find_7 2 rfl rfl)
theorem dJ21_find_167 : decode cJ21_find 167 = .ok (.ifnonnull (-164), 3) := dk_199 255 92 (dk_at dksJ21_find_7 4 rfl rfl)
theorem dJ21_find_170 : decode cJ21_find 170 = .ok (.aconst_null, 1) := dk_1 (dk_at dksJ21_find_7 7 rfl rfl)
theorem dJ21_find_171 : decode cJ21_find 171 = .ok (.areturn, 1) := dk_176 (dk_at dksJ21_find_7 8 rfl rfl)
abbrev cJ21_treeify : ByteArray := prog_58_method_7_code
def yJ21_treeify : MethodName := ⟨RJ21, "treeify", "([Ljava/util/HashMap$Node;)V"⟩
def dkwJ21_treeify_9 : List UInt8 := [25, 4, 78, 167, 255, 48, 43, 44, 184, 0, 104, 177]
abbrev dktJ21_treeify_9 : List UInt8 := dkwJ21_treeify_9 ++ []
def dkwJ21_treeify_8 : List UInt8 := [181, 0, 39, 167, 0, 9, 25, 12, 45, 181, 0, 42, 44, 45, 184, 0, 100, 77, 167, 0, 6, 167, 255, 114]
abbrev dktJ21_treeify_8 : List UInt8 := dkwJ21_treeify_8 ++ dktJ21_treeify_9
def dkwJ21_treeify_7 : List UInt8 := [180, 0, 42, 89, 58, 8, 199, 0, 38, 45, 25, 12, 181, 0, 9, 21, 9, 157, 0, 12, 25, 12, 45]
abbrev dktJ21_treeify_7 : List UInt8 := dkwJ21_treeify_7 ++ dktJ21_treeify_8
def dkwJ21_treeify_6 : List UInt8 := [184, 0, 96, 54, 9, 25, 8, 58, 12, 21, 9, 157, 0, 11, 25, 8, 180, 0, 39, 167, 0, 8, 25, 8]
abbrev dktJ21_treeify_6 : List UInt8 := dkwJ21_treeify_6 ++ dktJ21_treeify_7
def dkwJ21_treeify_5 : List UInt8 := [198, 0, 18, 25, 7, 25, 5, 25, 11, 184, 0, 59, 89, 54, 9, 154, 0, 12, 25, 5, 25, 11]
abbrev dktJ21_treeify_5 : List UInt8 := dkwJ21_treeify_5 ++ dktJ21_treeify_6
def dkwJ21_treeify_4 : List UInt8 := [162, 0, 9, 4, 54, 9, 167, 0, 43, 25, 7, 199, 0, 14, 25, 5, 184, 0, 55, 89, 58, 7]
abbrev dktJ21_treeify_4 : List UInt8 := dkwJ21_treeify_4 ++ dktJ21_treeify_5
def dkwJ21_treeify_3 : List UInt8 := [25, 8, 180, 0, 15, 89, 54, 10, 21, 6, 164, 0, 9, 2, 54, 9, 167, 0, 56, 21, 10, 21, 6]
abbrev dktJ21_treeify_3 : List UInt8 := dkwJ21_treeify_3 ++ dktJ21_treeify_4
def dkwJ21_treeify_2 : List UInt8 := [180, 0, 45, 58, 5, 45, 180, 0, 15, 54, 6, 1, 58, 7, 44, 58, 8, 25, 8, 180, 0, 45, 58, 11]
abbrev dktJ21_treeify_2 : List UInt8 := dkwJ21_treeify_2 ++ dktJ21_treeify_3
def dkwJ21_treeify_1 : List UInt8 := [181, 0, 39, 44, 199, 0, 18, 45, 1, 181, 0, 9, 45, 3, 181, 0, 93, 45, 77, 167, 0, 166, 45]
abbrev dktJ21_treeify_1 : List UInt8 := dkwJ21_treeify_1 ++ dktJ21_treeify_2
def dkwJ21_treeify_0 : List UInt8 := [1, 77, 42, 78, 45, 198, 0, 210, 45, 180, 0, 22, 192, 0, 10, 58, 4, 45, 45, 1, 90, 181, 0, 42]
abbrev dktJ21_treeify_0 : List UInt8 := dkwJ21_treeify_0 ++ dktJ21_treeify_1
theorem dksJ21_treeify_0 : cJ21_treeify.data.toList.drop 0 = dktJ21_treeify_0 := by decide +kernel
theorem dksJ21_treeify_1 : cJ21_treeify.data.toList.drop 24 = dktJ21_treeify_1 := dk_seg dksJ21_treeify_0 24 rfl rfl
theorem dksJ21_treeify_2 : cJ21_treeify.data.toList.drop 47 = dktJ21_treeify_2 := dk_seg dksJ21_treeify_1 23 rfl rfl
theorem dksJ21_treeify_3 : cJ21_treeify.data.toList.drop 71 = dktJ21_treeify_3 := dk_seg dksJ21_treeify_2 24 rfl rfl
theorem dksJ21_treeify_4 : cJ21_treeify.data.toList.drop 94 = dktJ21_treeify_4 := dk_seg dksJ21_treeify_3 23 rfl rfl
theorem dksJ21_treeify_5 : cJ21_treeify.data.toList.drop 116 = dktJ21_treeify_5 := dk_seg dksJ21_treeify_4 22 rfl rfl
theorem dksJ21_treeify_6 : cJ21_treeify.data.toList.drop 138 = dktJ21_treeify_6 := dk_seg dksJ21_treeify_5 22 rfl rfl
theorem dksJ21_treeify_7 : cJ21_treeify.data.toList.drop 162 = dktJ21_treeify_7 := dk_seg dksJ21_treeify_6 24 rfl rfl
theorem dksJ21_treeify_8 : cJ21_treeify.data.toList.drop 185 = dktJ21_treeify_8 := dk_seg dksJ21_treeify_7 23 rfl rfl
theorem dksJ21_treeify_9 : cJ21_treeify.data.toList.drop 209 = dktJ21_treeify_9 := dk_seg dksJ21_treeify_8 24 rfl rfl
theorem dJ21_treeify_0 : decode cJ21_treeify 0 = .ok (.aconst_null, 1) := dk_1 (dk_at dksJ21_treeify_0 0 rfl rfl)
theorem dJ21_treeify_1 : decode cJ21_treeify 1 = .ok (.astore_n 2, 1) := dk_77 (dk_at dksJ21_treeify_0 1 rfl rfl)
theorem dJ21_treeify_2 : decode cJ21_treeify 2 = .ok (.aload_n 0, 1) := dk_42 (dk_at dksJ21_treeify_0 2 rfl rfl)
theorem dJ21_treeify_3 : decode cJ21_treeify 3 = .ok (.astore_n 3, 1) := dk_78 (dk_at dksJ21_treeify_0 3 rfl rfl)
theorem dJ21_treeify_4 : decode cJ21_treeify 4 = .ok (.aload_n 3, 1) := dk_45 (dk_at dksJ21_treeify_0 4 rfl rfl)
theorem dJ21_treeify_5 : decode cJ21_treeify 5 = .ok (.ifnull 210, 3) := dk_198 0 210 (dk_at dksJ21_treeify_0 5 rfl rfl)
theorem dJ21_treeify_8 : decode cJ21_treeify 8 = .ok (.aload_n 3, 1) := dk_45 (dk_at dksJ21_treeify_0 8 rfl rfl)
theorem dJ21_treeify_9 : decode cJ21_treeify 9 = .ok (.getfield 22, 3) := dk_180 0 22 (dk_at dksJ21_treeify_0 9 rfl rfl)
theorem dJ21_treeify_12 : decode cJ21_treeify 12 = .ok (.checkcast 10, 3) := dk_192 0 10 (dk_at dksJ21_treeify_0 12 rfl rfl)
theorem dJ21_treeify_15 : decode cJ21_treeify 15 = .ok (.astore 4, 2) := dk_58 4 (dk_at dksJ21_treeify_0 15 rfl rfl)
theorem dJ21_treeify_17 : decode cJ21_treeify 17 = .ok (.aload_n 3, 1) := dk_45 (dk_at dksJ21_treeify_0 17 rfl rfl)
theorem dJ21_treeify_18 : decode cJ21_treeify 18 = .ok (.aload_n 3, 1) := dk_45 (dk_at dksJ21_treeify_0 18 rfl rfl)
theorem dJ21_treeify_19 : decode cJ21_treeify 19 = .ok (.aconst_null, 1) := dk_1 (dk_at dksJ21_treeify_0 19 rfl rfl)
theorem dJ21_treeify_20 : decode cJ21_treeify 20 = .ok (.dup_x1, 1) := dk_90 (dk_at dksJ21_treeify_0 20 rfl rfl)
theorem dJ21_treeify_21 : decode cJ21_treeify 21 = .ok (.putfield 42, 3) := dk_181 0 42 (dk_at dksJ21_treeify_0 21 rfl rfl)
theorem dJ21_treeify_24 : decode cJ21_treeify 24 = .ok (.putfield 39, 3) := dk_181 0 39 (dk_at dksJ21_treeify_1 0 rfl rfl)
theorem dJ21_treeify_27 : decode cJ21_treeify 27 = .ok (.aload_n 2, 1) := dk_44 (dk_at dksJ21_treeify_1 3 rfl rfl)
theorem dJ21_treeify_28 : decode cJ21_treeify 28 = .ok (.ifnonnull 18, 3) := dk_199 0 18 (dk_at dksJ21_treeify_1 4 rfl rfl)
theorem dJ21_treeify_31 : decode cJ21_treeify 31 = .ok (.aload_n 3, 1) := dk_45 (dk_at dksJ21_treeify_1 7 rfl rfl)
theorem dJ21_treeify_32 : decode cJ21_treeify 32 = .ok (.aconst_null, 1) := dk_1 (dk_at dksJ21_treeify_1 8 rfl rfl)
theorem dJ21_treeify_33 : decode cJ21_treeify 33 = .ok (.putfield 9, 3) := dk_181 0 9 (dk_at dksJ21_treeify_1 9 rfl rfl)
theorem dJ21_treeify_36 : decode cJ21_treeify 36 = .ok (.aload_n 3, 1) := dk_45 (dk_at dksJ21_treeify_1 12 rfl rfl)
theorem dJ21_treeify_37 : decode cJ21_treeify 37 = .ok (.iconst 0, 1) := dk_3 (dk_at dksJ21_treeify_1 13 rfl rfl)
theorem dJ21_treeify_38 : decode cJ21_treeify 38 = .ok (.putfield 93, 3) := dk_181 0 93 (dk_at dksJ21_treeify_1 14 rfl rfl)
theorem dJ21_treeify_41 : decode cJ21_treeify 41 = .ok (.aload_n 3, 1) := dk_45 (dk_at dksJ21_treeify_1 17 rfl rfl)
theorem dJ21_treeify_42 : decode cJ21_treeify 42 = .ok (.astore_n 2, 1) := dk_77 (dk_at dksJ21_treeify_1 18 rfl rfl)
theorem dJ21_treeify_43 : decode cJ21_treeify 43 = .ok (.goto 166, 3) := dk_167 0 166 (dk_at dksJ21_treeify_1 19 rfl rfl)
theorem dJ21_treeify_46 : decode cJ21_treeify 46 = .ok (.aload_n 3, 1) := dk_45 (dk_at dksJ21_treeify_1 22 rfl rfl)
theorem dJ21_treeify_47 : decode cJ21_treeify 47 = .ok (.getfield 45, 3) := dk_180 0 45 (dk_at dksJ21_treeify_2 0 rfl rfl)
theorem dJ21_treeify_50 : decode cJ21_treeify 50 = .ok (.astore 5, 2) := dk_58 5 (dk_at dksJ21_treeify_2 3 rfl rfl)
theorem dJ21_treeify_52 : decode cJ21_treeify 52 = .ok (.aload_n 3, 1) := dk_45 (dk_at dksJ21_treeify_2 5 rfl rfl)
theorem dJ21_treeify_53 : decode cJ21_treeify 53 = .ok (.getfield 15, 3) := dk_180 0 15 (dk_at dksJ21_treeify_2 6 rfl rfl)
theorem dJ21_treeify_56 : decode cJ21_treeify 56 = .ok (.istore 6, 2) := dk_54 6 (dk_at dksJ21_treeify_2 9 rfl rfl)
theorem dJ21_treeify_58 : decode cJ21_treeify 58 = .ok (.aconst_null, 1) := dk_1 (dk_at dksJ21_treeify_2 11 rfl rfl)
theorem dJ21_treeify_59 : decode cJ21_treeify 59 = .ok (.astore 7, 2) := dk_58 7 (dk_at dksJ21_treeify_2 12 rfl rfl)
theorem dJ21_treeify_61 : decode cJ21_treeify 61 = .ok (.aload_n 2, 1) := dk_44 (dk_at dksJ21_treeify_2 14 rfl rfl)
theorem dJ21_treeify_62 : decode cJ21_treeify 62 = .ok (.astore 8, 2) := dk_58 8 (dk_at dksJ21_treeify_2 15 rfl rfl)
theorem dJ21_treeify_64 : decode cJ21_treeify 64 = .ok (.aload 8, 2) := dk_25 8 (dk_at dksJ21_treeify_2 17 rfl rfl)
theorem dJ21_treeify_66 : decode cJ21_treeify 66 = .ok (.getfield 45, 3) := dk_180 0 45 (dk_at dksJ21_treeify_2 19 rfl rfl)
theorem dJ21_treeify_69 : decode cJ21_treeify 69 = .ok (.astore 11, 2) := dk_58 11 (dk_at dksJ21_treeify_2 22 rfl rfl)
theorem dJ21_treeify_71 : decode cJ21_treeify 71 = .ok (.aload 8, 2) := dk_25 8 (dk_at dksJ21_treeify_3 0 rfl rfl)
theorem dJ21_treeify_73 : decode cJ21_treeify 73 = .ok (.getfield 15, 3) := dk_180 0 15 (dk_at dksJ21_treeify_3 2 rfl rfl)
theorem dJ21_treeify_76 : decode cJ21_treeify 76 = .ok (.dup, 1) := dk_89 (dk_at dksJ21_treeify_3 5 rfl rfl)
theorem dJ21_treeify_77 : decode cJ21_treeify 77 = .ok (.istore 10, 2) := dk_54 10 (dk_at dksJ21_treeify_3 6 rfl rfl)
theorem dJ21_treeify_79 : decode cJ21_treeify 79 = .ok (.iload 6, 2) := dk_21 6 (dk_at dksJ21_treeify_3 8 rfl rfl)
theorem dJ21_treeify_81 : decode cJ21_treeify 81 = .ok (.if_icmp .le 9, 3) := dk_164 0 9 (dk_at dksJ21_treeify_3 10 rfl rfl)
theorem dJ21_treeify_84 : decode cJ21_treeify 84 = .ok (.iconst (-1), 1) := dk_2 (dk_at dksJ21_treeify_3 13 rfl rfl)
theorem dJ21_treeify_85 : decode cJ21_treeify 85 = .ok (.istore 9, 2) := dk_54 9 (dk_at dksJ21_treeify_3 14 rfl rfl)
theorem dJ21_treeify_87 : decode cJ21_treeify 87 = .ok (.goto 56, 3) := dk_167 0 56 (dk_at dksJ21_treeify_3 16 rfl rfl)
theorem dJ21_treeify_90 : decode cJ21_treeify 90 = .ok (.iload 10, 2) := dk_21 10 (dk_at dksJ21_treeify_3 19 rfl rfl)
theorem dJ21_treeify_92 : decode cJ21_treeify 92 = .ok (.iload 6, 2) := dk_21 6 (dk_at dksJ21_treeify_3 21 rfl rfl)
theorem dJ21_treeify_94 : decode cJ21_treeify 94 = .ok (.if_icmp .ge 9, 3) := dk_162 0 9 (dk_at dksJ21_treeify_4 0 rfl rfl)
theorem dJ21_treeify_97 : decode cJ21_treeify 97 = .ok (.iconst 1, 1) := dk_4 (dk_at dksJ21_treeify_4 3 rfl rfl)
theorem dJ21_treeify_98 : decode cJ21_treeify 98 = .ok (.istore 9, 2) := dk_54 9 (dk_at dksJ21_treeify_4 4 rfl rfl)
theorem dJ21_treeify_100 : decode cJ21_treeify 100 = .ok (.goto 43, 3) := dk_167 0 43 (dk_at dksJ21_treeify_4 6 rfl rfl)
theorem dJ21_treeify_103 : decode cJ21_treeify 103 = .ok (.aload 7, 2) := dk_25 7 (dk_at dksJ21_treeify_4 9 rfl rfl)
theorem dJ21_treeify_105 : decode cJ21_treeify 105 = .ok (.ifnonnull 14, 3) := dk_199 0 14 (dk_at dksJ21_treeify_4 11 rfl rfl)
theorem dJ21_treeify_108 : decode cJ21_treeify 108 = .ok (.aload 5, 2) := dk_25 5 (dk_at dksJ21_treeify_4 14 rfl rfl)
theorem dJ21_treeify_110 : decode cJ21_treeify 110 = .ok (.invokestatic 55, 3) := dk_184 0 55 (dk_at dksJ21_treeify_4 16 rfl rfl)
theorem dJ21_treeify_113 : decode cJ21_treeify 113 = .ok (.dup, 1) := dk_89 (dk_at dksJ21_treeify_4 19 rfl rfl)
theorem dJ21_treeify_114 : decode cJ21_treeify 114 = .ok (.astore 7, 2) := dk_58 7 (dk_at dksJ21_treeify_4 20 rfl rfl)
theorem dJ21_treeify_116 : decode cJ21_treeify 116 = .ok (.ifnull 18, 3) := dk_198 0 18 (dk_at dksJ21_treeify_5 0 rfl rfl)
theorem dJ21_treeify_119 : decode cJ21_treeify 119 = .ok (.aload 7, 2) := dk_25 7 (dk_at dksJ21_treeify_5 3 rfl rfl)
theorem dJ21_treeify_121 : decode cJ21_treeify 121 = .ok (.aload 5, 2) := dk_25 5 (dk_at dksJ21_treeify_5 5 rfl rfl)
theorem dJ21_treeify_123 : decode cJ21_treeify 123 = .ok (.aload 11, 2) := dk_25 11 (dk_at dksJ21_treeify_5 7 rfl rfl)
theorem dJ21_treeify_125 : decode cJ21_treeify 125 = .ok (.invokestatic 59, 3) := dk_184 0 59 (dk_at dksJ21_treeify_5 9 rfl rfl)
theorem dJ21_treeify_128 : decode cJ21_treeify 128 = .ok (.dup, 1) := dk_89 (dk_at dksJ21_treeify_5 12 rfl rfl)
theorem dJ21_treeify_129 : decode cJ21_treeify 129 = .ok (.istore 9, 2) := dk_54 9 (dk_at dksJ21_treeify_5 13 rfl rfl)
theorem dJ21_treeify_131 : decode cJ21_treeify 131 = .ok (.ifCond .ne 12, 3) := dk_154 0 12 (dk_at dksJ21_treeify_5 15 rfl rfl)
theorem dJ21_treeify_134 : decode cJ21_treeify 134 = .ok (.aload 5, 2) := dk_25 5 (dk_at dksJ21_treeify_5 18 rfl rfl)
theorem dJ21_treeify_136 : decode cJ21_treeify 136 = .ok (.aload 11, 2) := dk_25 11 (dk_at dksJ21_treeify_5 20 rfl rfl)
theorem dJ21_treeify_138 : decode cJ21_treeify 138 = .ok (.invokestatic 96, 3) := dk_184 0 96 (dk_at dksJ21_treeify_6 0 rfl rfl)
theorem dJ21_treeify_141 : decode cJ21_treeify 141 = .ok (.istore 9, 2) := dk_54 9 (dk_at dksJ21_treeify_6 3 rfl rfl)
theorem dJ21_treeify_143 : decode cJ21_treeify 143 = .ok (.aload 8, 2) := dk_25 8 (dk_at dksJ21_treeify_6 5 rfl rfl)
theorem dJ21_treeify_145 : decode cJ21_treeify 145 = .ok (.astore 12, 2) := dk_58 12 (dk_at dksJ21_treeify_6 7 rfl rfl)
theorem dJ21_treeify_147 : decode cJ21_treeify 147 = .ok (.iload 9, 2) := dk_21 9 (dk_at dksJ21_treeify_6 9 rfl rfl)
theorem dJ21_treeify_149 : decode cJ21_treeify 149 = .ok (.ifCond .gt 11, 3) := dk_157 0 11 (dk_at dksJ21_treeify_6 11 rfl rfl)
theorem dJ21_treeify_152 : decode cJ21_treeify 152 = .ok (.aload 8, 2) := dk_25 8 (dk_at dksJ21_treeify_6 14 rfl rfl)
theorem dJ21_treeify_154 : decode cJ21_treeify 154 = .ok (.getfield 39, 3) := dk_180 0 39 (dk_at dksJ21_treeify_6 16 rfl rfl)
theorem dJ21_treeify_157 : decode cJ21_treeify 157 = .ok (.goto 8, 3) := dk_167 0 8 (dk_at dksJ21_treeify_6 19 rfl rfl)
theorem dJ21_treeify_160 : decode cJ21_treeify 160 = .ok (.aload 8, 2) := dk_25 8 (dk_at dksJ21_treeify_6 22 rfl rfl)
theorem dJ21_treeify_162 : decode cJ21_treeify 162 = .ok (.getfield 42, 3) := dk_180 0 42 (dk_at dksJ21_treeify_7 0 rfl rfl)
theorem dJ21_treeify_165 : decode cJ21_treeify 165 = .ok (.dup, 1) := dk_89 (dk_at dksJ21_treeify_7 3 rfl rfl)
theorem dJ21_treeify_166 : decode cJ21_treeify 166 = .ok (.astore 8, 2) := dk_58 8 (dk_at dksJ21_treeify_7 4 rfl rfl)
theorem dJ21_treeify_168 : decode cJ21_treeify 168 = .ok (.ifnonnull 38, 3) := dk_199 0 38 (dk_at dksJ21_treeify_7 6 rfl rfl)
theorem dJ21_treeify_171 : decode cJ21_treeify 171 = .ok (.aload_n 3, 1) := dk_45 (dk_at dksJ21_treeify_7 9 rfl rfl)
theorem dJ21_treeify_172 : decode cJ21_treeify 172 = .ok (.aload 12, 2) := dk_25 12 (dk_at dksJ21_treeify_7 10 rfl rfl)
theorem dJ21_treeify_174 : decode cJ21_treeify 174 = .ok (.putfield 9, 3) := dk_181 0 9 (dk_at dksJ21_treeify_7 12 rfl rfl)
theorem dJ21_treeify_177 : decode cJ21_treeify 177 = .ok (.iload 9, 2) := dk_21 9 (dk_at dksJ21_treeify_7 15 rfl rfl)
theorem dJ21_treeify_179 : decode cJ21_treeify 179 = .ok (.ifCond .gt 12, 3) := dk_157 0 12 (dk_at dksJ21_treeify_7 17 rfl rfl)
theorem dJ21_treeify_182 : decode cJ21_treeify 182 = .ok (.aload 12, 2) := dk_25 12 (dk_at dksJ21_treeify_7 20 rfl rfl)
theorem dJ21_treeify_184 : decode cJ21_treeify 184 = .ok (.aload_n 3, 1) := dk_45 (dk_at dksJ21_treeify_7 22 rfl rfl)
theorem dJ21_treeify_185 : decode cJ21_treeify 185 = .ok (.putfield 39, 3) := dk_181 0 39 (dk_at dksJ21_treeify_8 0 rfl rfl)
theorem dJ21_treeify_188 : decode cJ21_treeify 188 = .ok (.goto 9, 3) := dk_167 0 9 (dk_at dksJ21_treeify_8 3 rfl rfl)
theorem dJ21_treeify_191 : decode cJ21_treeify 191 = .ok (.aload 12, 2) := dk_25 12 (dk_at dksJ21_treeify_8 6 rfl rfl)
theorem dJ21_treeify_193 : decode cJ21_treeify 193 = .ok (.aload_n 3, 1) := dk_45 (dk_at dksJ21_treeify_8 8 rfl rfl)
theorem dJ21_treeify_194 : decode cJ21_treeify 194 = .ok (.putfield 42, 3) := dk_181 0 42 (dk_at dksJ21_treeify_8 9 rfl rfl)
theorem dJ21_treeify_197 : decode cJ21_treeify 197 = .ok (.aload_n 2, 1) := dk_44 (dk_at dksJ21_treeify_8 12 rfl rfl)
theorem dJ21_treeify_198 : decode cJ21_treeify 198 = .ok (.aload_n 3, 1) := dk_45 (dk_at dksJ21_treeify_8 13 rfl rfl)
theorem dJ21_treeify_199 : decode cJ21_treeify 199 = .ok (.invokestatic 100, 3) := dk_184 0 100 (dk_at dksJ21_treeify_8 14 rfl rfl)
theorem dJ21_treeify_202 : decode cJ21_treeify 202 = .ok (.astore_n 2, 1) := dk_77 (dk_at dksJ21_treeify_8 17 rfl rfl)
theorem dJ21_treeify_203 : decode cJ21_treeify 203 = .ok (.goto 6, 3) := dk_167 0 6 (dk_at dksJ21_treeify_8 18 rfl rfl)
theorem dJ21_treeify_206 : decode cJ21_treeify 206 = .ok (.goto (-142), 3) := dk_167 255 114 (dk_at dksJ21_treeify_8 21 rfl rfl)
theorem dJ21_treeify_209 : decode cJ21_treeify 209 = .ok (.aload 4, 2) := dk_25 4 (dk_at dksJ21_treeify_9 0 rfl rfl)
theorem dJ21_treeify_211 : decode cJ21_treeify 211 = .ok (.astore_n 3, 1) := dk_78 (dk_at dksJ21_treeify_9 2 rfl rfl)
theorem dJ21_treeify_212 : decode cJ21_treeify 212 = .ok (.goto (-208), 3) := dk_167 255 48 (dk_at dksJ21_treeify_9 3 rfl rfl)
theorem dJ21_treeify_215 : decode cJ21_treeify 215 = .ok (.aload_n 1, 1) := dk_43 (dk_at dksJ21_treeify_9 6 rfl rfl)
theorem dJ21_treeify_216 : decode cJ21_treeify 216 = .ok (.aload_n 2, 1) := dk_44 (dk_at dksJ21_treeify_9 7 rfl rfl)
theorem dJ21_treeify_217 : decode cJ21_treeify 217 = .ok (.invokestatic 104, 3) := dk_184 0 104 (dk_at dksJ21_treeify_9 8 rfl rfl)
theorem dJ21_treeify_220 : decode cJ21_treeify 220 = .ok (.return_, 1) := dk_177 (dk_at dksJ21_treeify_9 11 rfl rfl)
abbrev cJ21_balanceInsertion : ByteArray := prog_58_method_14_code
def yJ21_balanceInsertion : MethodName := ⟨RJ21, "balanceInsertion", "(Ljava/util/HashMap$TreeNode;Ljava/util/HashMap$TreeNode;)Ljava/util/HashMap$TreeNode;"⟩
def dkwJ21_balanceInsertion_10 : List UInt8 := [198, 255, 33, 45, 4, 181, 0, 93, 42, 45, 184, 0, 130, 75, 167, 255, 19]
abbrev dktJ21_balanceInsertion_10 : List UInt8 := dkwJ21_balanceInsertion_10 ++ []
def dkwJ21_balanceInsertion_9 : List UInt8 := [199, 0, 7, 1, 167, 0, 7, 44, 180, 0, 9, 78, 44, 198, 255, 42, 44, 3, 181, 0, 93, 45]
abbrev dktJ21_balanceInsertion_9 : List UInt8 := dkwJ21_balanceInsertion_9 ++ dktJ21_balanceInsertion_10
def dkwJ21_balanceInsertion_8 : List UInt8 := [43, 44, 180, 0, 39, 166, 0, 29, 42, 44, 89, 76, 184, 0, 133, 75, 43, 180, 0, 9, 89, 77]
abbrev dktJ21_balanceInsertion_8 : List UInt8 := dkwJ21_balanceInsertion_8 ++ dktJ21_balanceInsertion_9
def dkwJ21_balanceInsertion_7 : List UInt8 := [153, 0, 24, 25, 4, 3, 181, 0, 93, 44, 3, 181, 0, 93, 45, 4, 181, 0, 93, 45, 76, 167, 255, 80]
abbrev dktJ21_balanceInsertion_7 : List UInt8 := dkwJ21_balanceInsertion_7 ++ dktJ21_balanceInsertion_8
def dkwJ21_balanceInsertion_6 : List UInt8 := [181, 0, 93, 42, 45, 184, 0, 133, 75, 167, 255, 114, 25, 4, 198, 0, 32, 25, 4, 180, 0, 93]
abbrev dktJ21_balanceInsertion_6 : List UInt8 := dkwJ21_balanceInsertion_6 ++ dktJ21_balanceInsertion_7
def dkwJ21_balanceInsertion_5 : List UInt8 := [167, 0, 7, 44, 180, 0, 9, 78, 44, 198, 255, 137, 44, 3, 181, 0, 93, 45, 198, 255, 128, 45, 4]
abbrev dktJ21_balanceInsertion_5 : List UInt8 := dkwJ21_balanceInsertion_5 ++ dktJ21_balanceInsertion_6
def dkwJ21_balanceInsertion_4 : List UInt8 := [180, 0, 42, 166, 0, 29, 42, 44, 89, 76, 184, 0, 130, 75, 43, 180, 0, 9, 89, 77, 199, 0, 7, 1]
abbrev dktJ21_balanceInsertion_4 : List UInt8 := dkwJ21_balanceInsertion_4 ++ dktJ21_balanceInsertion_5
def dkwJ21_balanceInsertion_3 : List UInt8 := [25, 5, 3, 181, 0, 93, 44, 3, 181, 0, 93, 45, 4, 181, 0, 93, 45, 76, 167, 255, 175, 43, 44]
abbrev dktJ21_balanceInsertion_3 : List UInt8 := dkwJ21_balanceInsertion_3 ++ dktJ21_balanceInsertion_4
def dkwJ21_balanceInsertion_2 : List UInt8 := [58, 4, 166, 0, 103, 45, 180, 0, 42, 89, 58, 5, 198, 0, 32, 25, 5, 180, 0, 93, 153, 0, 24]
abbrev dktJ21_balanceInsertion_2 : List UInt8 := dkwJ21_balanceInsertion_2 ++ dktJ21_balanceInsertion_3
def dkwJ21_balanceInsertion_1 : List UInt8 := [180, 0, 93, 153, 0, 12, 44, 180, 0, 9, 89, 78, 199, 0, 5, 42, 176, 44, 45, 180, 0, 39, 89]
abbrev dktJ21_balanceInsertion_1 : List UInt8 := dkwJ21_balanceInsertion_1 ++ dktJ21_balanceInsertion_2
def dkwJ21_balanceInsertion_0 : List UInt8 := [43, 4, 181, 0, 93, 43, 180, 0, 9, 89, 77, 199, 0, 10, 43, 3, 181, 0, 93, 43, 176, 44]
abbrev dktJ21_balanceInsertion_0 : List UInt8 := dkwJ21_balanceInsertion_0 ++ dktJ21_balanceInsertion_1
theorem dksJ21_balanceInsertion_0 : cJ21_balanceInsertion.data.toList.drop 0 = dktJ21_balanceInsertion_0 := by decide +kernel
theorem dksJ21_balanceInsertion_1 : cJ21_balanceInsertion.data.toList.drop 22 = dktJ21_balanceInsertion_1 := dk_seg dksJ21_balanceInsertion_0 22 rfl rfl
theorem dksJ21_balanceInsertion_2 : cJ21_balanceInsertion.data.toList.drop 45 = dktJ21_balanceInsertion_2 := dk_seg dksJ21_balanceInsertion_1 23 rfl rfl
theorem dksJ21_balanceInsertion_3 : cJ21_balanceInsertion.data.toList.drop 68 = dktJ21_balanceInsertion_3 := dk_seg dksJ21_balanceInsertion_2 23 rfl rfl
theorem dksJ21_balanceInsertion_4 : cJ21_balanceInsertion.data.toList.drop 91 = dktJ21_balanceInsertion_4 := dk_seg dksJ21_balanceInsertion_3 23 rfl rfl
theorem dksJ21_balanceInsertion_5 : cJ21_balanceInsertion.data.toList.drop 115 = dktJ21_balanceInsertion_5 := dk_seg dksJ21_balanceInsertion_4 24 rfl rfl
theorem dksJ21_balanceInsertion_6 : cJ21_balanceInsertion.data.toList.drop 138 = dktJ21_balanceInsertion_6 := dk_seg dksJ21_balanceInsertion_5 23 rfl rfl
theorem dksJ21_balanceInsertion_7 : cJ21_balanceInsertion.data.toList.drop 160 = dktJ21_balanceInsertion_7 := dk_seg dksJ21_balanceInsertion_6 22 rfl rfl
theorem dksJ21_balanceInsertion_8 : cJ21_balanceInsertion.data.toList.drop 184 = dktJ21_balanceInsertion_8 := dk_seg dksJ21_balanceInsertion_7 24 rfl rfl
theorem dksJ21_balanceInsertion_9 : cJ21_balanceInsertion.data.toList.drop 206 = dktJ21_balanceInsertion_9 := dk_seg dksJ21_balanceInsertion_8 22 rfl rfl
theorem dksJ21_balanceInsertion_10 : cJ21_balanceInsertion.data.toList.drop 228 = dktJ21_balanceInsertion_10 := dk_seg dksJ21_balanceInsertion_9 22 rfl rfl
theorem dJ21_balanceInsertion_0 : decode cJ21_balanceInsertion 0 = .ok (.aload_n 1, 1) := dk_43 (dk_at dksJ21_balanceInsertion_0 0 rfl rfl)
theorem dJ21_balanceInsertion_1 : decode cJ21_balanceInsertion 1 = .ok (.iconst 1, 1) := dk_4 (dk_at dksJ21_balanceInsertion_0 1 rfl rfl)
theorem dJ21_balanceInsertion_2 : decode cJ21_balanceInsertion 2 = .ok (.putfield 93, 3) := dk_181 0 93 (dk_at dksJ21_balanceInsertion_0 2 rfl rfl)
theorem dJ21_balanceInsertion_5 : decode cJ21_balanceInsertion 5 = .ok (.aload_n 1, 1) := dk_43 (dk_at dksJ21_balanceInsertion_0 5 rfl rfl)
theorem dJ21_balanceInsertion_6 : decode cJ21_balanceInsertion 6 = .ok (.getfield 9, 3) := dk_180 0 9 (dk_at dksJ21_balanceInsertion_0 6 rfl rfl)
theorem dJ21_balanceInsertion_9 : decode cJ21_balanceInsertion 9 = .ok (.dup, 1) := dk_89 (dk_at dksJ21_balanceInsertion_0 9 rfl rfl)
theorem dJ21_balanceInsertion_10 : decode cJ21_balanceInsertion 10 = .ok (.astore_n 2, 1) := dk_77 (dk_at dksJ21_balanceInsertion_0 10 rfl rfl)
theorem dJ21_balanceInsertion_11 : decode cJ21_balanceInsertion 11 = .ok (.ifnonnull 10, 3) := dk_199 0 10 (dk_at dksJ21_balanceInsertion_0 11 rfl rfl)
theorem dJ21_balanceInsertion_14 : decode cJ21_balanceInsertion 14 = .ok (.aload_n 1, 1) := dk_43 (dk_at dksJ21_balanceInsertion_0 14 rfl rfl)
theorem dJ21_balanceInsertion_15 : decode cJ21_balanceInsertion 15 = .ok (.iconst 0, 1) := dk_3 (dk_at dksJ21_balanceInsertion_0 15 rfl rfl)
theorem dJ21_balanceInsertion_16 : decode cJ21_balanceInsertion 16 = .ok (.putfield 93, 3) := dk_181 0 93 (dk_at dksJ21_balanceInsertion_0 16 rfl rfl)
theorem dJ21_balanceInsertion_19 : decode cJ21_balanceInsertion 19 = .ok (.aload_n 1, 1) := dk_43 (dk_at dksJ21_balanceInsertion_0 19 rfl rfl)
theorem dJ21_balanceInsertion_20 : decode cJ21_balanceInsertion 20 = .ok (.areturn, 1) := dk_176 (dk_at dksJ21_balanceInsertion_0 20 rfl rfl)
theorem dJ21_balanceInsertion_21 : decode cJ21_balanceInsertion 21 = .ok (.aload_n 2, 1) := dk_44 (dk_at dksJ21_balanceInsertion_0 21 rfl rfl)
theorem dJ21_balanceInsertion_22 : decode cJ21_balanceInsertion 22 = .ok (.getfield 93, 3) := dk_180 0 93 (dk_at dksJ21_balanceInsertion_1 0 rfl rfl)
theorem dJ21_balanceInsertion_25 : decode cJ21_balanceInsertion 25 = .ok (.ifCond .eq 12, 3) := dk_153 0 12 (dk_at dksJ21_balanceInsertion_1 3 rfl rfl)
theorem dJ21_balanceInsertion_28 : decode cJ21_balanceInsertion 28 = .ok (.aload_n 2, 1) := dk_44 (dk_at dksJ21_balanceInsertion_1 6 rfl rfl)
theorem dJ21_balanceInsertion_29 : decode cJ21_balanceInsertion 29 = .ok (.getfield 9, 3) := dk_180 0 9 (dk_at dksJ21_balanceInsertion_1 7 rfl rfl)
theorem dJ21_balanceInsertion_32 : decode cJ21_balanceInsertion 32 = .ok (.dup, 1) := dk_89 (dk_at dksJ21_balanceInsertion_1 10 rfl rfl)
theorem dJ21_balanceInsertion_33 : decode cJ21_balanceInsertion 33 = .ok (.astore_n 3, 1) := dk_78 (dk_at dksJ21_balanceInsertion_1 11 rfl rfl)
theorem dJ21_balanceInsertion_34 : decode cJ21_balanceInsertion 34 = .ok (.ifnonnull 5, 3) := dk_199 0 5 (dk_at dksJ21_balanceInsertion_1 12 rfl rfl)
theorem dJ21_balanceInsertion_37 : decode cJ21_balanceInsertion 37 = .ok (.aload_n 0, 1) := dk_42 (dk_at dksJ21_balanceInsertion_1 15 rfl rfl)
theorem dJ21_balanceInsertion_38 : decode cJ21_balanceInsertion 38 = .ok (.areturn, 1) := dk_176 (dk_at dksJ21_balanceInsertion_1 16 rfl rfl)
theorem dJ21_balanceInsertion_39 : decode cJ21_balanceInsertion 39 = .ok (.aload_n 2, 1) := dk_44 (dk_at dksJ21_balanceInsertion_1 17 rfl rfl)
theorem dJ21_balanceInsertion_40 : decode cJ21_balanceInsertion 40 = .ok (.aload_n 3, 1) := dk_45 (dk_at dksJ21_balanceInsertion_1 18 rfl rfl)
theorem dJ21_balanceInsertion_41 : decode cJ21_balanceInsertion 41 = .ok (.getfield 39, 3) := dk_180 0 39 (dk_at dksJ21_balanceInsertion_1 19 rfl rfl)
theorem dJ21_balanceInsertion_44 : decode cJ21_balanceInsertion 44 = .ok (.dup, 1) := dk_89 (dk_at dksJ21_balanceInsertion_1 22 rfl rfl)
theorem dJ21_balanceInsertion_45 : decode cJ21_balanceInsertion 45 = .ok (.astore 4, 2) := dk_58 4 (dk_at dksJ21_balanceInsertion_2 0 rfl rfl)
theorem dJ21_balanceInsertion_47 : decode cJ21_balanceInsertion 47 = .ok (.if_acmp .ne 103, 3) := dk_166 0 103 (dk_at dksJ21_balanceInsertion_2 2 rfl rfl)
theorem dJ21_balanceInsertion_50 : decode cJ21_balanceInsertion 50 = .ok (.aload_n 3, 1) := dk_45 (dk_at dksJ21_balanceInsertion_2 5 rfl rfl)
theorem dJ21_balanceInsertion_51 : decode cJ21_balanceInsertion 51 = .ok (.getfield 42, 3) := dk_180 0 42 (dk_at dksJ21_balanceInsertion_2 6 rfl rfl)
theorem dJ21_balanceInsertion_54 : decode cJ21_balanceInsertion 54 = .ok (.dup, 1) := dk_89 (dk_at dksJ21_balanceInsertion_2 9 rfl rfl)
theorem dJ21_balanceInsertion_55 : decode cJ21_balanceInsertion 55 = .ok (.astore 5, 2) := dk_58 5 (dk_at dksJ21_balanceInsertion_2 10 rfl rfl)
theorem dJ21_balanceInsertion_57 : decode cJ21_balanceInsertion 57 = .ok (.ifnull 32, 3) := dk_198 0 32 (dk_at dksJ21_balanceInsertion_2 12 rfl rfl)
theorem dJ21_balanceInsertion_60 : decode cJ21_balanceInsertion 60 = .ok (.aload 5, 2) := dk_25 5 (dk_at dksJ21_balanceInsertion_2 15 rfl rfl)
theorem dJ21_balanceInsertion_62 : decode cJ21_balanceInsertion 62 = .ok (.getfield 93, 3) := dk_180 0 93 (dk_at dksJ21_balanceInsertion_2 17 rfl rfl)
theorem dJ21_balanceInsertion_65 : decode cJ21_balanceInsertion 65 = .ok (.ifCond .eq 24, 3) := dk_153 0 24 (dk_at dksJ21_balanceInsertion_2 20 rfl rfl)
theorem dJ21_balanceInsertion_68 : decode cJ21_balanceInsertion 68 = .ok (.aload 5, 2) := dk_25 5 (dk_at dksJ21_balanceInsertion_3 0 rfl rfl)
theorem dJ21_balanceInsertion_70 : decode cJ21_balanceInsertion 70 = .ok (.iconst 0, 1) := dk_3 (dk_at dksJ21_balanceInsertion_3 2 rfl rfl)
theorem dJ21_balanceInsertion_71 : decode cJ21_balanceInsertion 71 = .ok (.putfield 93, 3) := dk_181 0 93 (dk_at dksJ21_balanceInsertion_3 3 rfl rfl)
theorem dJ21_balanceInsertion_74 : decode cJ21_balanceInsertion 74 = .ok (.aload_n 2, 1) := dk_44 (dk_at dksJ21_balanceInsertion_3 6 rfl rfl)
theorem dJ21_balanceInsertion_75 : decode cJ21_balanceInsertion 75 = .ok (.iconst 0, 1) := dk_3 (dk_at dksJ21_balanceInsertion_3 7 rfl rfl)
theorem dJ21_balanceInsertion_76 : decode cJ21_balanceInsertion 76 = .ok (.putfield 93, 3) := dk_181 0 93 (dk_at dksJ21_balanceInsertion_3 8 rfl rfl)
theorem dJ21_balanceInsertion_79 : decode cJ21_balanceInsertion 79 = .ok (.aload_n 3, 1) := dk_45 (dk_at dksJ21_balanceInsertion_3 11 rfl rfl)
theorem dJ21_balanceInsertion_80 : decode cJ21_balanceInsertion 80 = .ok (.iconst 1, 1) := dk_4 (dk_at dksJ21_balanceInsertion_3 12 rfl rfl)
theorem dJ21_balanceInsertion_81 : decode cJ21_balanceInsertion 81 = .ok (.putfield 93, 3) := dk_181 0 93 (dk_at dksJ21_balanceInsertion_3 13 rfl rfl)
theorem dJ21_balanceInsertion_84 : decode cJ21_balanceInsertion 84 = .ok (.aload_n 3, 1) := dk_45 (dk_at dksJ21_balanceInsertion_3 16 rfl rfl)
theorem dJ21_balanceInsertion_85 : decode cJ21_balanceInsertion 85 = .ok (.astore_n 1, 1) := dk_76 (dk_at dksJ21_balanceInsertion_3 17 rfl rfl)
theorem dJ21_balanceInsertion_86 : decode cJ21_balanceInsertion 86 = .ok (.goto (-81), 3) := dk_167 255 175 (dk_at dksJ21_balanceInsertion_3 18 rfl rfl)
theorem dJ21_balanceInsertion_89 : decode cJ21_balanceInsertion 89 = .ok (.aload_n 1, 1) := dk_43 (dk_at dksJ21_balanceInsertion_3 21 rfl rfl)
theorem dJ21_balanceInsertion_90 : decode cJ21_balanceInsertion 90 = .ok (.aload_n 2, 1) := dk_44 (dk_at dksJ21_balanceInsertion_3 22 rfl rfl)
theorem dJ21_balanceInsertion_91 : decode cJ21_balanceInsertion 91 = .ok (.getfield 42, 3) := dk_180 0 42 (dk_at dksJ21_balanceInsertion_4 0 rfl rfl)
theorem dJ21_balanceInsertion_94 : decode cJ21_balanceInsertion 94 = .ok (.if_acmp .ne 29, 3) := dk_166 0 29 (dk_at dksJ21_balanceInsertion_4 3 rfl rfl)
theorem dJ21_balanceInsertion_97 : decode cJ21_balanceInsertion 97 = .ok (.aload_n 0, 1) := dk_42 (dk_at dksJ21_balanceInsertion_4 6 rfl rfl)
theorem dJ21_balanceInsertion_98 : decode cJ21_balanceInsertion 98 = .ok (.aload_n 2, 1) := dk_44 (dk_at dksJ21_balanceInsertion_4 7 rfl rfl)
theorem dJ21_balanceInsertion_99 : decode cJ21_balanceInsertion 99 = .ok (.dup, 1) := dk_89 (dk_at dksJ21_balanceInsertion_4 8 rfl rfl)
theorem dJ21_balanceInsertion_100 : decode cJ21_balanceInsertion 100 = .ok (.astore_n 1, 1) := dk_76 (dk_at dksJ21_balanceInsertion_4 9 rfl rfl)
theorem dJ21_balanceInsertion_101 : decode cJ21_balanceInsertion 101 = .ok (.invokestatic 130, 3) := dk_184 0 130 (dk_at dksJ21_balanceInsertion_4 10 rfl rfl)
theorem dJ21_balanceInsertion_104 : decode cJ21_balanceInsertion 104 = .ok (.astore_n 0, 1) := dk_75 (dk_at dksJ21_balanceInsertion_4 13 rfl rfl)
theorem dJ21_balanceInsertion_105 : decode cJ21_balanceInsertion 105 = .ok (.aload_n 1, 1) := dk_43 (dk_at dksJ21_balanceInsertion_4 14 rfl rfl)
theorem dJ21_balanceInsertion_106 : decode cJ21_balanceInsertion 106 = .ok (.getfield 9, 3) := dk_180 0 9 (dk_at dksJ21_balanceInsertion_4 15 rfl rfl)
theorem dJ21_balanceInsertion_109 : decode cJ21_balanceInsertion 109 = .ok (.dup, 1) := dk_89 (dk_at dksJ21_balanceInsertion_4 18 rfl rfl)
theorem dJ21_balanceInsertion_110 : decode cJ21_balanceInsertion 110 = .ok (.astore_n 2, 1) := dk_77 (dk_at dksJ21_balanceInsertion_4 19 rfl rfl)
theorem dJ21_balanceInsertion_111 : decode cJ21_balanceInsertion 111 = .ok (.ifnonnull 7, 3) := dk_199 0 7 (dk_at dksJ21_balanceInsertion_4 20 rfl rfl)
theorem dJ21_balanceInsertion_114 : decode cJ21_balanceInsertion 114 = .ok (.aconst_null, 1) := dk_1 (dk_at dksJ21_balanceInsertion_4 23 rfl rfl)
theorem dJ21_balanceInsertion_115 : decode cJ21_balanceInsertion 115 = .ok (.goto 7, 3) := dk_167 0 7 (dk_at dksJ21_balanceInsertion_5 0 rfl rfl)
theorem dJ21_balanceInsertion_118 : decode cJ21_balanceInsertion 118 = .ok (.aload_n 2, 1) := dk_44 (dk_at dksJ21_balanceInsertion_5 3 rfl rfl)
theorem dJ21_balanceInsertion_119 : decode cJ21_balanceInsertion 119 = .ok (.getfield 9, 3) := dk_180 0 9 (dk_at dksJ21_balanceInsertion_5 4 rfl rfl)
theorem dJ21_balanceInsertion_122 : decode cJ21_balanceInsertion 122 = .ok (.astore_n 3, 1) := dk_78 (dk_at dksJ21_balanceInsertion_5 7 rfl rfl)
theorem dJ21_balanceInsertion_123 : decode cJ21_balanceInsertion 123 = .ok (.aload_n 2, 1) := dk_44 (dk_at dksJ21_balanceInsertion_5 8 rfl rfl)
theorem dJ21_balanceInsertion_124 : decode cJ21_balanceInsertion 124 = .ok (.ifnull (-119), 3) := dk_198 255 137 (dk_at dksJ21_balanceInsertion_5 9 rfl rfl)
theorem dJ21_balanceInsertion_127 : decode cJ21_balanceInsertion 127 = .ok (.aload_n 2, 1) := dk_44 (dk_at dksJ21_balanceInsertion_5 12 rfl rfl)
theorem dJ21_balanceInsertion_128 : decode cJ21_balanceInsertion 128 = .ok (.iconst 0, 1) := dk_3 (dk_at dksJ21_balanceInsertion_5 13 rfl rfl)
theorem dJ21_balanceInsertion_129 : decode cJ21_balanceInsertion 129 = .ok (.putfield 93, 3) := dk_181 0 93 (dk_at dksJ21_balanceInsertion_5 14 rfl rfl)
theorem dJ21_balanceInsertion_132 : decode cJ21_balanceInsertion 132 = .ok (.aload_n 3, 1) := dk_45 (dk_at dksJ21_balanceInsertion_5 17 rfl rfl)
theorem dJ21_balanceInsertion_133 : decode cJ21_balanceInsertion 133 = .ok (.ifnull (-128), 3) := dk_198 255 128 (dk_at dksJ21_balanceInsertion_5 18 rfl rfl)
theorem dJ21_balanceInsertion_136 : decode cJ21_balanceInsertion 136 = .ok (.aload_n 3, 1) := dk_45 (dk_at dksJ21_balanceInsertion_5 21 rfl rfl)
theorem dJ21_balanceInsertion_137 : decode cJ21_balanceInsertion 137 = .ok (.iconst 1, 1) := dk_4 (dk_at dksJ21_balanceInsertion_5 22 rfl rfl)
theorem dJ21_balanceInsertion_138 : decode cJ21_balanceInsertion 138 = .ok (.putfield 93, 3) := dk_181 0 93 (dk_at dksJ21_balanceInsertion_6 0 rfl rfl)
theorem dJ21_balanceInsertion_141 : decode cJ21_balanceInsertion 141 = .ok (.aload_n 0, 1) := dk_42 (dk_at dksJ21_balanceInsertion_6 3 rfl rfl)
theorem dJ21_balanceInsertion_142 : decode cJ21_balanceInsertion 142 = .ok (.aload_n 3, 1) := dk_45 (dk_at dksJ21_balanceInsertion_6 4 rfl rfl)
theorem dJ21_balanceInsertion_143 : decode cJ21_balanceInsertion 143 = .ok (.invokestatic 133, 3) := dk_184 0 133 (dk_at dksJ21_balanceInsertion_6 5 rfl rfl)
theorem dJ21_balanceInsertion_146 : decode cJ21_balanceInsertion 146 = .ok (.astore_n 0, 1) := dk_75 (dk_at dksJ21_balanceInsertion_6 8 rfl rfl)
theorem dJ21_balanceInsertion_147 : decode cJ21_balanceInsertion 147 = .ok (.goto (-142), 3) := dk_167 255 114 (dk_at dksJ21_balanceInsertion_6 9 rfl rfl)
theorem dJ21_balanceInsertion_150 : decode cJ21_balanceInsertion 150 = .ok (.aload 4, 2) := dk_25 4 (dk_at dksJ21_balanceInsertion_6 12 rfl rfl)
theorem dJ21_balanceInsertion_152 : decode cJ21_balanceInsertion 152 = .ok (.ifnull 32, 3) := dk_198 0 32 (dk_at dksJ21_balanceInsertion_6 14 rfl rfl)
theorem dJ21_balanceInsertion_155 : decode cJ21_balanceInsertion 155 = .ok (.aload 4, 2) := dk_25 4 (dk_at dksJ21_balanceInsertion_6 17 rfl rfl)
theorem dJ21_balanceInsertion_157 : decode cJ21_balanceInsertion 157 = .ok (.getfield 93, 3) := dk_180 0 93 (dk_at dksJ21_balanceInsertion_6 19 rfl rfl)
theorem dJ21_balanceInsertion_160 : decode cJ21_balanceInsertion 160 = .ok (.ifCond .eq 24, 3) := dk_153 0 24 (dk_at dksJ21_balanceInsertion_7 0 rfl rfl)
theorem dJ21_balanceInsertion_163 : decode cJ21_balanceInsertion 163 = .ok (.aload 4, 2) := dk_25 4 (dk_at dksJ21_balanceInsertion_7 3 rfl rfl)
theorem dJ21_balanceInsertion_165 : decode cJ21_balanceInsertion 165 = .ok (.iconst 0, 1) := dk_3 (dk_at dksJ21_balanceInsertion_7 5 rfl rfl)
theorem dJ21_balanceInsertion_166 : decode cJ21_balanceInsertion 166 = .ok (.putfield 93, 3) := dk_181 0 93 (dk_at dksJ21_balanceInsertion_7 6 rfl rfl)
theorem dJ21_balanceInsertion_169 : decode cJ21_balanceInsertion 169 = .ok (.aload_n 2, 1) := dk_44 (dk_at dksJ21_balanceInsertion_7 9 rfl rfl)
theorem dJ21_balanceInsertion_170 : decode cJ21_balanceInsertion 170 = .ok (.iconst 0, 1) := dk_3 (dk_at dksJ21_balanceInsertion_7 10 rfl rfl)
theorem dJ21_balanceInsertion_171 : decode cJ21_balanceInsertion 171 = .ok (.putfield 93, 3) := dk_181 0 93 (dk_at dksJ21_balanceInsertion_7 11 rfl rfl)
theorem dJ21_balanceInsertion_174 : decode cJ21_balanceInsertion 174 = .ok (.aload_n 3, 1) := dk_45 (dk_at dksJ21_balanceInsertion_7 14 rfl rfl)
theorem dJ21_balanceInsertion_175 : decode cJ21_balanceInsertion 175 = .ok (.iconst 1, 1) := dk_4 (dk_at dksJ21_balanceInsertion_7 15 rfl rfl)
theorem dJ21_balanceInsertion_176 : decode cJ21_balanceInsertion 176 = .ok (.putfield 93, 3) := dk_181 0 93 (dk_at dksJ21_balanceInsertion_7 16 rfl rfl)
theorem dJ21_balanceInsertion_179 : decode cJ21_balanceInsertion 179 = .ok (.aload_n 3, 1) := dk_45 (dk_at dksJ21_balanceInsertion_7 19 rfl rfl)
theorem dJ21_balanceInsertion_180 : decode cJ21_balanceInsertion 180 = .ok (.astore_n 1, 1) := dk_76 (dk_at dksJ21_balanceInsertion_7 20 rfl rfl)
theorem dJ21_balanceInsertion_181 : decode cJ21_balanceInsertion 181 = .ok (.goto (-176), 3) := dk_167 255 80 (dk_at dksJ21_balanceInsertion_7 21 rfl rfl)
theorem dJ21_balanceInsertion_184 : decode cJ21_balanceInsertion 184 = .ok (.aload_n 1, 1) := dk_43 (dk_at dksJ21_balanceInsertion_8 0 rfl rfl)
theorem dJ21_balanceInsertion_185 : decode cJ21_balanceInsertion 185 = .ok (.aload_n 2, 1) := dk_44 (dk_at dksJ21_balanceInsertion_8 1 rfl rfl)
theorem dJ21_balanceInsertion_186 : decode cJ21_balanceInsertion 186 = .ok (.getfield 39, 3) := dk_180 0 39 (dk_at dksJ21_balanceInsertion_8 2 rfl rfl)
theorem dJ21_balanceInsertion_189 : decode cJ21_balanceInsertion 189 = .ok (.if_acmp .ne 29, 3) := dk_166 0 29 (dk_at dksJ21_balanceInsertion_8 5 rfl rfl)
theorem dJ21_balanceInsertion_192 : decode cJ21_balanceInsertion 192 = .ok (.aload_n 0, 1) := dk_42 (dk_at dksJ21_balanceInsertion_8 8 rfl rfl)
theorem dJ21_balanceInsertion_193 : decode cJ21_balanceInsertion 193 = .ok (.aload_n 2, 1) := dk_44 (dk_at dksJ21_balanceInsertion_8 9 rfl rfl)
theorem dJ21_balanceInsertion_194 : decode cJ21_balanceInsertion 194 = .ok (.dup, 1) := dk_89 (dk_at dksJ21_balanceInsertion_8 10 rfl rfl)
theorem dJ21_balanceInsertion_195 : decode cJ21_balanceInsertion 195 = .ok (.astore_n 1, 1) := dk_76 (dk_at dksJ21_balanceInsertion_8 11 rfl rfl)
theorem dJ21_balanceInsertion_196 : decode cJ21_balanceInsertion 196 = .ok (.invokestatic 133, 3) := dk_184 0 133 (dk_at dksJ21_balanceInsertion_8 12 rfl rfl)
theorem dJ21_balanceInsertion_199 : decode cJ21_balanceInsertion 199 = .ok (.astore_n 0, 1) := dk_75 (dk_at dksJ21_balanceInsertion_8 15 rfl rfl)
theorem dJ21_balanceInsertion_200 : decode cJ21_balanceInsertion 200 = .ok (.aload_n 1, 1) := dk_43 (dk_at dksJ21_balanceInsertion_8 16 rfl rfl)
theorem dJ21_balanceInsertion_201 : decode cJ21_balanceInsertion 201 = .ok (.getfield 9, 3) := dk_180 0 9 (dk_at dksJ21_balanceInsertion_8 17 rfl rfl)
theorem dJ21_balanceInsertion_204 : decode cJ21_balanceInsertion 204 = .ok (.dup, 1) := dk_89 (dk_at dksJ21_balanceInsertion_8 20 rfl rfl)
theorem dJ21_balanceInsertion_205 : decode cJ21_balanceInsertion 205 = .ok (.astore_n 2, 1) := dk_77 (dk_at dksJ21_balanceInsertion_8 21 rfl rfl)
theorem dJ21_balanceInsertion_206 : decode cJ21_balanceInsertion 206 = .ok (.ifnonnull 7, 3) := dk_199 0 7 (dk_at dksJ21_balanceInsertion_9 0 rfl rfl)
theorem dJ21_balanceInsertion_209 : decode cJ21_balanceInsertion 209 = .ok (.aconst_null, 1) := dk_1 (dk_at dksJ21_balanceInsertion_9 3 rfl rfl)
theorem dJ21_balanceInsertion_210 : decode cJ21_balanceInsertion 210 = .ok (.goto 7, 3) := dk_167 0 7 (dk_at dksJ21_balanceInsertion_9 4 rfl rfl)
theorem dJ21_balanceInsertion_213 : decode cJ21_balanceInsertion 213 = .ok (.aload_n 2, 1) := dk_44 (dk_at dksJ21_balanceInsertion_9 7 rfl rfl)
theorem dJ21_balanceInsertion_214 : decode cJ21_balanceInsertion 214 = .ok (.getfield 9, 3) := dk_180 0 9 (dk_at dksJ21_balanceInsertion_9 8 rfl rfl)
theorem dJ21_balanceInsertion_217 : decode cJ21_balanceInsertion 217 = .ok (.astore_n 3, 1) := dk_78 (dk_at dksJ21_balanceInsertion_9 11 rfl rfl)
theorem dJ21_balanceInsertion_218 : decode cJ21_balanceInsertion 218 = .ok (.aload_n 2, 1) := dk_44 (dk_at dksJ21_balanceInsertion_9 12 rfl rfl)
theorem dJ21_balanceInsertion_219 : decode cJ21_balanceInsertion 219 = .ok (.ifnull (-214), 3) := dk_198 255 42 (dk_at dksJ21_balanceInsertion_9 13 rfl rfl)
theorem dJ21_balanceInsertion_222 : decode cJ21_balanceInsertion 222 = .ok (.aload_n 2, 1) := dk_44 (dk_at dksJ21_balanceInsertion_9 16 rfl rfl)
theorem dJ21_balanceInsertion_223 : decode cJ21_balanceInsertion 223 = .ok (.iconst 0, 1) := dk_3 (dk_at dksJ21_balanceInsertion_9 17 rfl rfl)
theorem dJ21_balanceInsertion_224 : decode cJ21_balanceInsertion 224 = .ok (.putfield 93, 3) := dk_181 0 93 (dk_at dksJ21_balanceInsertion_9 18 rfl rfl)
theorem dJ21_balanceInsertion_227 : decode cJ21_balanceInsertion 227 = .ok (.aload_n 3, 1) := dk_45 (dk_at dksJ21_balanceInsertion_9 21 rfl rfl)
theorem dJ21_balanceInsertion_228 : decode cJ21_balanceInsertion 228 = .ok (.ifnull (-223), 3) := dk_198 255 33 (dk_at dksJ21_balanceInsertion_10 0 rfl rfl)
theorem dJ21_balanceInsertion_231 : decode cJ21_balanceInsertion 231 = .ok (.aload_n 3, 1) := dk_45 (dk_at dksJ21_balanceInsertion_10 3 rfl rfl)
theorem dJ21_balanceInsertion_232 : decode cJ21_balanceInsertion 232 = .ok (.iconst 1, 1) := dk_4 (dk_at dksJ21_balanceInsertion_10 4 rfl rfl)
theorem dJ21_balanceInsertion_233 : decode cJ21_balanceInsertion 233 = .ok (.putfield 93, 3) := dk_181 0 93 (dk_at dksJ21_balanceInsertion_10 5 rfl rfl)
theorem dJ21_balanceInsertion_236 : decode cJ21_balanceInsertion 236 = .ok (.aload_n 0, 1) := dk_42 (dk_at dksJ21_balanceInsertion_10 8 rfl rfl)
theorem dJ21_balanceInsertion_237 : decode cJ21_balanceInsertion 237 = .ok (.aload_n 3, 1) := dk_45 (dk_at dksJ21_balanceInsertion_10 9 rfl rfl)
theorem dJ21_balanceInsertion_238 : decode cJ21_balanceInsertion 238 = .ok (.invokestatic 130, 3) := dk_184 0 130 (dk_at dksJ21_balanceInsertion_10 10 rfl rfl)
theorem dJ21_balanceInsertion_241 : decode cJ21_balanceInsertion 241 = .ok (.astore_n 0, 1) := dk_75 (dk_at dksJ21_balanceInsertion_10 13 rfl rfl)
theorem dJ21_balanceInsertion_242 : decode cJ21_balanceInsertion 242 = .ok (.goto (-237), 3) := dk_167 255 19 (dk_at dksJ21_balanceInsertion_10 14 rfl rfl)
abbrev cJ21_rotateLeft : ByteArray := prog_58_method_12_code
def yJ21_rotateLeft : MethodName := ⟨RJ21, "rotateLeft", "(Ljava/util/HashMap$TreeNode;Ljava/util/HashMap$TreeNode;)Ljava/util/HashMap$TreeNode;"⟩
def dkwJ21_rotateLeft_3 : List UInt8 := [181, 0, 39, 167, 0, 8, 45, 44, 181, 0, 42, 44, 43, 181, 0, 39, 43, 44, 181, 0, 9, 42, 176]
abbrev dktJ21_rotateLeft_3 : List UInt8 := dkwJ21_rotateLeft_3 ++ []
def dkwJ21_rotateLeft_2 : List UInt8 := [199, 0, 13, 44, 89, 75, 3, 181, 0, 93, 167, 0, 24, 45, 180, 0, 39, 43, 166, 0, 11, 45, 44]
abbrev dktJ21_rotateLeft_2 : List UInt8 := dkwJ21_rotateLeft_2 ++ dktJ21_rotateLeft_3
def dkwJ21_rotateLeft_1 : List UInt8 := [58, 4, 198, 0, 9, 25, 4, 43, 181, 0, 9, 44, 43, 180, 0, 9, 90, 181, 0, 9, 89, 78]
abbrev dktJ21_rotateLeft_1 : List UInt8 := dkwJ21_rotateLeft_1 ++ dktJ21_rotateLeft_2
def dkwJ21_rotateLeft_0 : List UInt8 := [43, 198, 0, 88, 43, 180, 0, 42, 89, 77, 198, 0, 79, 43, 44, 180, 0, 39, 90, 181, 0, 42, 89]
abbrev dktJ21_rotateLeft_0 : List UInt8 := dkwJ21_rotateLeft_0 ++ dktJ21_rotateLeft_1
theorem dksJ21_rotateLeft_0 : cJ21_rotateLeft.data.toList.drop 0 = dktJ21_rotateLeft_0 := by decide +kernel
theorem dksJ21_rotateLeft_1 : cJ21_rotateLeft.data.toList.drop 23 = dktJ21_rotateLeft_1 := dk_seg dksJ21_rotateLeft_0 23 rfl rfl
theorem dksJ21_rotateLeft_2 : cJ21_rotateLeft.data.toList.drop 45 = dktJ21_rotateLeft_2 := dk_seg dksJ21_rotateLeft_1 22 rfl rfl
theorem dksJ21_rotateLeft_3 : cJ21_rotateLeft.data.toList.drop 68 = dktJ21_rotateLeft_3 := dk_seg dksJ21_rotateLeft_2 23 rfl rfl
theorem dJ21_rotateLeft_0 : decode cJ21_rotateLeft 0 = .ok (.aload_n 1, 1) := dk_43 (dk_at dksJ21_rotateLeft_0 0 rfl rfl)
theorem dJ21_rotateLeft_1 : decode cJ21_rotateLeft 1 = .ok (.ifnull 88, 3) := dk_198 0 88 (dk_at dksJ21_rotateLeft_0 1 rfl rfl)
theorem dJ21_rotateLeft_4 : decode cJ21_rotateLeft 4 = .ok (.aload_n 1, 1) := dk_43 (dk_at dksJ21_rotateLeft_0 4 rfl rfl)
theorem dJ21_rotateLeft_5 : decode cJ21_rotateLeft 5 = .ok (.getfield 42, 3) := dk_180 0 42 (dk_at dksJ21_rotateLeft_0 5 rfl rfl)
theorem dJ21_rotateLeft_8 : decode cJ21_rotateLeft 8 = .ok (.dup, 1) := dk_89 (dk_at dksJ21_rotateLeft_0 8 rfl rfl)
theorem dJ21_rotateLeft_9 : decode cJ21_rotateLeft 9 = .ok (.astore_n 2, 1) := dk_77 (dk_at dksJ21_rotateLeft_0 9 rfl rfl)
theorem dJ21_rotateLeft_10 : decode cJ21_rotateLeft 10 = .ok (.ifnull 79, 3) := dk_198 0 79 (dk_at dksJ21_rotateLeft_0 10 rfl rfl)
theorem dJ21_rotateLeft_13 : decode cJ21_rotateLeft 13 = .ok (.aload_n 1, 1) := dk_43 (dk_at dksJ21_rotateLeft_0 13 rfl rfl)
theorem dJ21_rotateLeft_14 : decode cJ21_rotateLeft 14 = .ok (.aload_n 2, 1) := dk_44 (dk_at dksJ21_rotateLeft_0 14 rfl rfl)
theorem dJ21_rotateLeft_15 : decode cJ21_rotateLeft 15 = .ok (.getfield 39, 3) := dk_180 0 39 (dk_at dksJ21_rotateLeft_0 15 rfl rfl)
theorem dJ21_rotateLeft_18 : decode cJ21_rotateLeft 18 = .ok (.dup_x1, 1) := dk_90 (dk_at dksJ21_rotateLeft_0 18 rfl rfl)
theorem dJ21_rotateLeft_19 : decode cJ21_rotateLeft 19 = .ok (.putfield 42, 3) := dk_181 0 42 (dk_at dksJ21_rotateLeft_0 19 rfl rfl)
theorem dJ21_rotateLeft_22 : decode cJ21_rotateLeft 22 = .ok (.dup, 1) := dk_89 (dk_at dksJ21_rotateLeft_0 22 rfl rfl)
theorem dJ21_rotateLeft_23 : decode cJ21_rotateLeft 23 = .ok (.astore 4, 2) := dk_58 4 (dk_at dksJ21_rotateLeft_1 0 rfl rfl)
theorem dJ21_rotateLeft_25 : decode cJ21_rotateLeft 25 = .ok (.ifnull 9, 3) := dk_198 0 9 (dk_at dksJ21_rotateLeft_1 2 rfl rfl)
theorem dJ21_rotateLeft_28 : decode cJ21_rotateLeft 28 = .ok (.aload 4, 2) := dk_25 4 (dk_at dksJ21_rotateLeft_1 5 rfl rfl)
theorem dJ21_rotateLeft_30 : decode cJ21_rotateLeft 30 = .ok (.aload_n 1, 1) := dk_43 (dk_at dksJ21_rotateLeft_1 7 rfl rfl)
theorem dJ21_rotateLeft_31 : decode cJ21_rotateLeft 31 = .ok (.putfield 9, 3) := dk_181 0 9 (dk_at dksJ21_rotateLeft_1 8 rfl rfl)
theorem dJ21_rotateLeft_34 : decode cJ21_rotateLeft 34 = .ok (.aload_n 2, 1) := dk_44 (dk_at dksJ21_rotateLeft_1 11 rfl rfl)
theorem dJ21_rotateLeft_35 : decode cJ21_rotateLeft 35 = .ok (.aload_n 1, 1) := dk_43 (dk_at dksJ21_rotateLeft_1 12 rfl rfl)
theorem dJ21_rotateLeft_36 : decode cJ21_rotateLeft 36 = .ok (.getfield 9, 3) := dk_180 0 9 (dk_at dksJ21_rotateLeft_1 13 rfl rfl)
theorem dJ21_rotateLeft_39 : decode cJ21_rotateLeft 39 = .ok (.dup_x1, 1) := dk_90 (dk_at dksJ21_rotateLeft_1 16 rfl rfl)
theorem dJ21_rotateLeft_40 : decode cJ21_rotateLeft 40 = .ok (.putfield 9, 3) := dk_181 0 9 (dk_at dksJ21_rotateLeft_1 17 rfl rfl)
theorem dJ21_rotateLeft_43 : decode cJ21_rotateLeft 43 = .ok (.dup, 1) := dk_89 (dk_at dksJ21_rotateLeft_1 20 rfl rfl)
theorem dJ21_rotateLeft_44 : decode cJ21_rotateLeft 44 = .ok (.astore_n 3, 1) := dk_78 (dk_at dksJ21_rotateLeft_1 21 rfl rfl)
theorem dJ21_rotateLeft_45 : decode cJ21_rotateLeft 45 = .ok (.ifnonnull 13, 3) := dk_199 0 13 (dk_at dksJ21_rotateLeft_2 0 rfl rfl)
theorem dJ21_rotateLeft_48 : decode cJ21_rotateLeft 48 = .ok (.aload_n 2, 1) := dk_44 (dk_at dksJ21_rotateLeft_2 3 rfl rfl)
theorem dJ21_rotateLeft_49 : decode cJ21_rotateLeft 49 = .ok (.dup, 1) := dk_89 (dk_at dksJ21_rotateLeft_2 4 rfl rfl)
theorem dJ21_rotateLeft_50 : decode cJ21_rotateLeft 50 = .ok (.astore_n 0, 1) := dk_75 (dk_at dksJ21_rotateLeft_2 5 rfl rfl)
theorem dJ21_rotateLeft_51 : decode cJ21_rotateLeft 51 = .ok (.iconst 0, 1) := dk_3 (dk_at dksJ21_rotateLeft_2 6 rfl rfl)
theorem dJ21_rotateLeft_52 : decode cJ21_rotateLeft 52 = .ok (.putfield 93, 3) := dk_181 0 93 (dk_at dksJ21_rotateLeft_2 7 rfl rfl)
theorem dJ21_rotateLeft_55 : decode cJ21_rotateLeft 55 = .ok (.goto 24, 3) := dk_167 0 24 (dk_at dksJ21_rotateLeft_2 10 rfl rfl)
theorem dJ21_rotateLeft_58 : decode cJ21_rotateLeft 58 = .ok (.aload_n 3, 1) := dk_45 (dk_at dksJ21_rotateLeft_2 13 rfl rfl)
theorem dJ21_rotateLeft_59 : decode cJ21_rotateLeft 59 = .ok (.getfield 39, 3) := dk_180 0 39 (dk_at dksJ21_rotateLeft_2 14 rfl rfl)
theorem dJ21_rotateLeft_62 : decode cJ21_rotateLeft 62 = .ok (.aload_n 1, 1) := dk_43 (dk_at dksJ21_rotateLeft_2 17 rfl rfl)
theorem dJ21_rotateLeft_63 : decode cJ21_rotateLeft 63 = .ok (.if_acmp .ne 11, 3) := dk_166 0 11 (dk_at dksJ21_rotateLeft_2 18 rfl rfl)
theorem dJ21_rotateLeft_66 : decode cJ21_rotateLeft 66 = .ok (.aload_n 3, 1) := dk_45 (dk_at dksJ21_rotateLeft_2 21 rfl rfl)
theorem dJ21_rotateLeft_67 : decode cJ21_rotateLeft 67 = .ok (.aload_n 2, 1) := dk_44 (dk_at dksJ21_rotateLeft_2 22 rfl rfl)
theorem dJ21_rotateLeft_68 : decode cJ21_rotateLeft 68 = .ok (.putfield 39, 3) := dk_181 0 39 (dk_at dksJ21_rotateLeft_3 0 rfl rfl)
theorem dJ21_rotateLeft_71 : decode cJ21_rotateLeft 71 = .ok (.goto 8, 3) := dk_167 0 8 (dk_at dksJ21_rotateLeft_3 3 rfl rfl)
theorem dJ21_rotateLeft_74 : decode cJ21_rotateLeft 74 = .ok (.aload_n 3, 1) := dk_45 (dk_at dksJ21_rotateLeft_3 6 rfl rfl)
theorem dJ21_rotateLeft_75 : decode cJ21_rotateLeft 75 = .ok (.aload_n 2, 1) := dk_44 (dk_at dksJ21_rotateLeft_3 7 rfl rfl)
theorem dJ21_rotateLeft_76 : decode cJ21_rotateLeft 76 = .ok (.putfield 42, 3) := dk_181 0 42 (dk_at dksJ21_rotateLeft_3 8 rfl rfl)
theorem dJ21_rotateLeft_79 : decode cJ21_rotateLeft 79 = .ok (.aload_n 2, 1) := dk_44 (dk_at dksJ21_rotateLeft_3 11 rfl rfl)
theorem dJ21_rotateLeft_80 : decode cJ21_rotateLeft 80 = .ok (.aload_n 1, 1) := dk_43 (dk_at dksJ21_rotateLeft_3 12 rfl rfl)
theorem dJ21_rotateLeft_81 : decode cJ21_rotateLeft 81 = .ok (.putfield 39, 3) := dk_181 0 39 (dk_at dksJ21_rotateLeft_3 13 rfl rfl)
theorem dJ21_rotateLeft_84 : decode cJ21_rotateLeft 84 = .ok (.aload_n 1, 1) := dk_43 (dk_at dksJ21_rotateLeft_3 16 rfl rfl)
theorem dJ21_rotateLeft_85 : decode cJ21_rotateLeft 85 = .ok (.aload_n 2, 1) := dk_44 (dk_at dksJ21_rotateLeft_3 17 rfl rfl)
theorem dJ21_rotateLeft_86 : decode cJ21_rotateLeft 86 = .ok (.putfield 9, 3) := dk_181 0 9 (dk_at dksJ21_rotateLeft_3 18 rfl rfl)
theorem dJ21_rotateLeft_89 : decode cJ21_rotateLeft 89 = .ok (.aload_n 0, 1) := dk_42 (dk_at dksJ21_rotateLeft_3 21 rfl rfl)
theorem dJ21_rotateLeft_90 : decode cJ21_rotateLeft 90 = .ok (.areturn, 1) := dk_176 (dk_at dksJ21_rotateLeft_3 22 rfl rfl)
abbrev cJ21_rotateRight : ByteArray := prog_58_method_13_code
def yJ21_rotateRight : MethodName := ⟨RJ21, "rotateRight", "(Ljava/util/HashMap$TreeNode;Ljava/util/HashMap$TreeNode;)Ljava/util/HashMap$TreeNode;"⟩
def dkwJ21_rotateRight_3 : List UInt8 := [181, 0, 42, 167, 0, 8, 45, 44, 181, 0, 39, 44, 43, 181, 0, 42, 43, 44, 181, 0, 9, 42, 176]
abbrev dktJ21_rotateRight_3 : List UInt8 := dkwJ21_rotateRight_3 ++ []
def dkwJ21_rotateRight_2 : List UInt8 := [199, 0, 13, 44, 89, 75, 3, 181, 0, 93, 167, 0, 24, 45, 180, 0, 42, 43, 166, 0, 11, 45, 44]
abbrev dktJ21_rotateRight_2 : List UInt8 := dkwJ21_rotateRight_2 ++ dktJ21_rotateRight_3
def dkwJ21_rotateRight_1 : List UInt8 := [58, 4, 198, 0, 9, 25, 4, 43, 181, 0, 9, 44, 43, 180, 0, 9, 90, 181, 0, 9, 89, 78]
abbrev dktJ21_rotateRight_1 : List UInt8 := dkwJ21_rotateRight_1 ++ dktJ21_rotateRight_2
def dkwJ21_rotateRight_0 : List UInt8 := [43, 198, 0, 88, 43, 180, 0, 39, 89, 77, 198, 0, 79, 43, 44, 180, 0, 42, 90, 181, 0, 39, 89]
abbrev dktJ21_rotateRight_0 : List UInt8 := dkwJ21_rotateRight_0 ++ dktJ21_rotateRight_1
theorem dksJ21_rotateRight_0 : cJ21_rotateRight.data.toList.drop 0 = dktJ21_rotateRight_0 := by decide +kernel
theorem dksJ21_rotateRight_1 : cJ21_rotateRight.data.toList.drop 23 = dktJ21_rotateRight_1 := dk_seg dksJ21_rotateRight_0 23 rfl rfl
theorem dksJ21_rotateRight_2 : cJ21_rotateRight.data.toList.drop 45 = dktJ21_rotateRight_2 := dk_seg dksJ21_rotateRight_1 22 rfl rfl
theorem dksJ21_rotateRight_3 : cJ21_rotateRight.data.toList.drop 68 = dktJ21_rotateRight_3 := dk_seg dksJ21_rotateRight_2 23 rfl rfl
theorem dJ21_rotateRight_0 : decode cJ21_rotateRight 0 = .ok (.aload_n 1, 1) := dk_43 (dk_at dksJ21_rotateRight_0 0 rfl rfl)
theorem dJ21_rotateRight_1 : decode cJ21_rotateRight 1 = .ok (.ifnull 88, 3) := dk_198 0 88 (dk_at dksJ21_rotateRight_0 1 rfl rfl)
theorem dJ21_rotateRight_4 : decode cJ21_rotateRight 4 = .ok (.aload_n 1, 1) := dk_43 (dk_at dksJ21_rotateRight_0 4 rfl rfl)
theorem dJ21_rotateRight_5 : decode cJ21_rotateRight 5 = .ok (.getfield 39, 3) := dk_180 0 39 (dk_at dksJ21_rotateRight_0 5 rfl rfl)
theorem dJ21_rotateRight_8 : decode cJ21_rotateRight 8 = .ok (.dup, 1) := dk_89 (dk_at dksJ21_rotateRight_0 8 rfl rfl)
theorem dJ21_rotateRight_9 : decode cJ21_rotateRight 9 = .ok (.astore_n 2, 1) := dk_77 (dk_at dksJ21_rotateRight_0 9 rfl rfl)
theorem dJ21_rotateRight_10 : decode cJ21_rotateRight 10 = .ok (.ifnull 79, 3) := dk_198 0 79 (dk_at dksJ21_rotateRight_0 10 rfl rfl)
theorem dJ21_rotateRight_13 : decode cJ21_rotateRight 13 = .ok (.aload_n 1, 1) := dk_43 (dk_at dksJ21_rotateRight_0 13 rfl rfl)
theorem dJ21_rotateRight_14 : decode cJ21_rotateRight 14 = .ok (.aload_n 2, 1) := dk_44 (dk_at dksJ21_rotateRight_0 14 rfl rfl)
theorem dJ21_rotateRight_15 : decode cJ21_rotateRight 15 = .ok (.getfield 42, 3) := dk_180 0 42 (dk_at dksJ21_rotateRight_0 15 rfl rfl)
theorem dJ21_rotateRight_18 : decode cJ21_rotateRight 18 = .ok (.dup_x1, 1) := dk_90 (dk_at dksJ21_rotateRight_0 18 rfl rfl)
theorem dJ21_rotateRight_19 : decode cJ21_rotateRight 19 = .ok (.putfield 39, 3) := dk_181 0 39 (dk_at dksJ21_rotateRight_0 19 rfl rfl)
theorem dJ21_rotateRight_22 : decode cJ21_rotateRight 22 = .ok (.dup, 1) := dk_89 (dk_at dksJ21_rotateRight_0 22 rfl rfl)
theorem dJ21_rotateRight_23 : decode cJ21_rotateRight 23 = .ok (.astore 4, 2) := dk_58 4 (dk_at dksJ21_rotateRight_1 0 rfl rfl)
theorem dJ21_rotateRight_25 : decode cJ21_rotateRight 25 = .ok (.ifnull 9, 3) := dk_198 0 9 (dk_at dksJ21_rotateRight_1 2 rfl rfl)
theorem dJ21_rotateRight_28 : decode cJ21_rotateRight 28 = .ok (.aload 4, 2) := dk_25 4 (dk_at dksJ21_rotateRight_1 5 rfl rfl)
theorem dJ21_rotateRight_30 : decode cJ21_rotateRight 30 = .ok (.aload_n 1, 1) := dk_43 (dk_at dksJ21_rotateRight_1 7 rfl rfl)
theorem dJ21_rotateRight_31 : decode cJ21_rotateRight 31 = .ok (.putfield 9, 3) := dk_181 0 9 (dk_at dksJ21_rotateRight_1 8 rfl rfl)
theorem dJ21_rotateRight_34 : decode cJ21_rotateRight 34 = .ok (.aload_n 2, 1) := dk_44 (dk_at dksJ21_rotateRight_1 11 rfl rfl)
theorem dJ21_rotateRight_35 : decode cJ21_rotateRight 35 = .ok (.aload_n 1, 1) := dk_43 (dk_at dksJ21_rotateRight_1 12 rfl rfl)
theorem dJ21_rotateRight_36 : decode cJ21_rotateRight 36 = .ok (.getfield 9, 3) := dk_180 0 9 (dk_at dksJ21_rotateRight_1 13 rfl rfl)
theorem dJ21_rotateRight_39 : decode cJ21_rotateRight 39 = .ok (.dup_x1, 1) := dk_90 (dk_at dksJ21_rotateRight_1 16 rfl rfl)
theorem dJ21_rotateRight_40 : decode cJ21_rotateRight 40 = .ok (.putfield 9, 3) := dk_181 0 9 (dk_at dksJ21_rotateRight_1 17 rfl rfl)
theorem dJ21_rotateRight_43 : decode cJ21_rotateRight 43 = .ok (.dup, 1) := dk_89 (dk_at dksJ21_rotateRight_1 20 rfl rfl)
theorem dJ21_rotateRight_44 : decode cJ21_rotateRight 44 = .ok (.astore_n 3, 1) := dk_78 (dk_at dksJ21_rotateRight_1 21 rfl rfl)
theorem dJ21_rotateRight_45 : decode cJ21_rotateRight 45 = .ok (.ifnonnull 13, 3) := dk_199 0 13 (dk_at dksJ21_rotateRight_2 0 rfl rfl)
theorem dJ21_rotateRight_48 : decode cJ21_rotateRight 48 = .ok (.aload_n 2, 1) := dk_44 (dk_at dksJ21_rotateRight_2 3 rfl rfl)
theorem dJ21_rotateRight_49 : decode cJ21_rotateRight 49 = .ok (.dup, 1) := dk_89 (dk_at dksJ21_rotateRight_2 4 rfl rfl)
theorem dJ21_rotateRight_50 : decode cJ21_rotateRight 50 = .ok (.astore_n 0, 1) := dk_75 (dk_at dksJ21_rotateRight_2 5 rfl rfl)
theorem dJ21_rotateRight_51 : decode cJ21_rotateRight 51 = .ok (.iconst 0, 1) := dk_3 (dk_at dksJ21_rotateRight_2 6 rfl rfl)
theorem dJ21_rotateRight_52 : decode cJ21_rotateRight 52 = .ok (.putfield 93, 3) := dk_181 0 93 (dk_at dksJ21_rotateRight_2 7 rfl rfl)
theorem dJ21_rotateRight_55 : decode cJ21_rotateRight 55 = .ok (.goto 24, 3) := dk_167 0 24 (dk_at dksJ21_rotateRight_2 10 rfl rfl)
theorem dJ21_rotateRight_58 : decode cJ21_rotateRight 58 = .ok (.aload_n 3, 1) := dk_45 (dk_at dksJ21_rotateRight_2 13 rfl rfl)
theorem dJ21_rotateRight_59 : decode cJ21_rotateRight 59 = .ok (.getfield 42, 3) := dk_180 0 42 (dk_at dksJ21_rotateRight_2 14 rfl rfl)
theorem dJ21_rotateRight_62 : decode cJ21_rotateRight 62 = .ok (.aload_n 1, 1) := dk_43 (dk_at dksJ21_rotateRight_2 17 rfl rfl)
theorem dJ21_rotateRight_63 : decode cJ21_rotateRight 63 = .ok (.if_acmp .ne 11, 3) := dk_166 0 11 (dk_at dksJ21_rotateRight_2 18 rfl rfl)
theorem dJ21_rotateRight_66 : decode cJ21_rotateRight 66 = .ok (.aload_n 3, 1) := dk_45 (dk_at dksJ21_rotateRight_2 21 rfl rfl)
theorem dJ21_rotateRight_67 : decode cJ21_rotateRight 67 = .ok (.aload_n 2, 1) := dk_44 (dk_at dksJ21_rotateRight_2 22 rfl rfl)
theorem dJ21_rotateRight_68 : decode cJ21_rotateRight 68 = .ok (.putfield 42, 3) := dk_181 0 42 (dk_at dksJ21_rotateRight_3 0 rfl rfl)
theorem dJ21_rotateRight_71 : decode cJ21_rotateRight 71 = .ok (.goto 8, 3) := dk_167 0 8 (dk_at dksJ21_rotateRight_3 3 rfl rfl)
theorem dJ21_rotateRight_74 : decode cJ21_rotateRight 74 = .ok (.aload_n 3, 1) := dk_45 (dk_at dksJ21_rotateRight_3 6 rfl rfl)
theorem dJ21_rotateRight_75 : decode cJ21_rotateRight 75 = .ok (.aload_n 2, 1) := dk_44 (dk_at dksJ21_rotateRight_3 7 rfl rfl)
theorem dJ21_rotateRight_76 : decode cJ21_rotateRight 76 = .ok (.putfield 39, 3) := dk_181 0 39 (dk_at dksJ21_rotateRight_3 8 rfl rfl)
theorem dJ21_rotateRight_79 : decode cJ21_rotateRight 79 = .ok (.aload_n 2, 1) := dk_44 (dk_at dksJ21_rotateRight_3 11 rfl rfl)
theorem dJ21_rotateRight_80 : decode cJ21_rotateRight 80 = .ok (.aload_n 1, 1) := dk_43 (dk_at dksJ21_rotateRight_3 12 rfl rfl)
theorem dJ21_rotateRight_81 : decode cJ21_rotateRight 81 = .ok (.putfield 42, 3) := dk_181 0 42 (dk_at dksJ21_rotateRight_3 13 rfl rfl)
theorem dJ21_rotateRight_84 : decode cJ21_rotateRight 84 = .ok (.aload_n 1, 1) := dk_43 (dk_at dksJ21_rotateRight_3 16 rfl rfl)
theorem dJ21_rotateRight_85 : decode cJ21_rotateRight 85 = .ok (.aload_n 2, 1) := dk_44 (dk_at dksJ21_rotateRight_3 17 rfl rfl)
theorem dJ21_rotateRight_86 : decode cJ21_rotateRight 86 = .ok (.putfield 9, 3) := dk_181 0 9 (dk_at dksJ21_rotateRight_3 18 rfl rfl)
theorem dJ21_rotateRight_89 : decode cJ21_rotateRight 89 = .ok (.aload_n 0, 1) := dk_42 (dk_at dksJ21_rotateRight_3 21 rfl rfl)
theorem dJ21_rotateRight_90 : decode cJ21_rotateRight 90 = .ok (.areturn, 1) := dk_176 (dk_at dksJ21_rotateRight_3 22 rfl rfl)
abbrev cJ21_moveRootToFront : ByteArray := prog_58_method_3_code
def yJ21_moveRootToFront : MethodName := ⟨RJ21, "moveRootToFront", "([Ljava/util/HashMap$Node;Ljava/util/HashMap$TreeNode;)V"⟩
def dkwJ21_moveRootToFront_5 : List UInt8 := [89, 183, 0, 36, 191, 177]
abbrev dktJ21_moveRootToFront_5 : List UInt8 := dkwJ21_moveRootToFront_5 ++ []
def dkwJ21_moveRootToFront_4 : List UInt8 := [181, 0, 22, 43, 1, 181, 0, 19, 178, 0, 26, 154, 0, 18, 43, 184, 0, 30, 154, 0, 11, 187, 0, 34]
abbrev dktJ21_moveRootToFront_4 : List UInt8 := dkwJ21_moveRootToFront_4 ++ dktJ21_moveRootToFront_5
def dkwJ21_moveRootToFront_3 : List UInt8 := [198, 0, 10, 25, 6, 25, 5, 181, 0, 22, 25, 4, 198, 0, 9, 25, 4, 43, 181, 0, 19, 43, 25, 4]
abbrev dktJ21_moveRootToFront_3 : List UInt8 := dkwJ21_moveRootToFront_3 ++ dktJ21_moveRootToFront_4
def dkwJ21_moveRootToFront_2 : List UInt8 := [43, 180, 0, 22, 89, 58, 5, 198, 0, 13, 25, 5, 192, 0, 10, 25, 6, 181, 0, 19, 25, 6]
abbrev dktJ21_moveRootToFront_2 : List UInt8 := dkwJ21_moveRootToFront_2 ++ dktJ21_moveRootToFront_3
def dkwJ21_moveRootToFront_1 : List UInt8 := [42, 29, 50, 192, 0, 10, 58, 4, 43, 25, 4, 165, 0, 67, 42, 29, 43, 83, 43, 180, 0, 19, 58, 6]
abbrev dktJ21_moveRootToFront_1 : List UInt8 := dkwJ21_moveRootToFront_1 ++ dktJ21_moveRootToFront_2
def dkwJ21_moveRootToFront_0 : List UInt8 := [43, 198, 0, 122, 42, 198, 0, 118, 42, 190, 89, 61, 158, 0, 111, 28, 4, 100, 43, 180, 0, 15, 126, 62]
abbrev dktJ21_moveRootToFront_0 : List UInt8 := dkwJ21_moveRootToFront_0 ++ dktJ21_moveRootToFront_1
theorem dksJ21_moveRootToFront_0 : cJ21_moveRootToFront.data.toList.drop 0 = dktJ21_moveRootToFront_0 := by decide +kernel
theorem dksJ21_moveRootToFront_1 : cJ21_moveRootToFront.data.toList.drop 24 = dktJ21_moveRootToFront_1 := dk_seg dksJ21_moveRootToFront_0 24 rfl rfl
theorem dksJ21_moveRootToFront_2 : cJ21_moveRootToFront.data.toList.drop 48 = dktJ21_moveRootToFront_2 := dk_seg dksJ21_moveRootToFront_1 24 rfl rfl
theorem dksJ21_moveRootToFront_3 : cJ21_moveRootToFront.data.toList.drop 70 = dktJ21_moveRootToFront_3 := dk_seg dksJ21_moveRootToFront_2 22 rfl rfl
theorem dksJ21_moveRootToFront_4 : cJ21_moveRootToFront.data.toList.drop 94 = dktJ21_moveRootToFront_4 := dk_seg dksJ21_moveRootToFront_3 24 rfl rfl
theorem dksJ21_moveRootToFront_5 : cJ21_moveRootToFront.data.toList.drop 118 = dktJ21_moveRootToFront_5 := dk_seg dksJ21_moveRootToFront_4 24 rfl rfl
theorem dJ21_moveRootToFront_0 : decode cJ21_moveRootToFront 0 = .ok (.aload_n 1, 1) := dk_43 (dk_at dksJ21_moveRootToFront_0 0 rfl rfl)
theorem dJ21_moveRootToFront_1 : decode cJ21_moveRootToFront 1 = .ok (.ifnull 122, 3) := dk_198 0 122 (dk_at dksJ21_moveRootToFront_0 1 rfl rfl)
theorem dJ21_moveRootToFront_4 : decode cJ21_moveRootToFront 4 = .ok (.aload_n 0, 1) := dk_42 (dk_at dksJ21_moveRootToFront_0 4 rfl rfl)
theorem dJ21_moveRootToFront_5 : decode cJ21_moveRootToFront 5 = .ok (.ifnull 118, 3) := dk_198 0 118 (dk_at dksJ21_moveRootToFront_0 5 rfl rfl)
theorem dJ21_moveRootToFront_8 : decode cJ21_moveRootToFront 8 = .ok (.aload_n 0, 1) := dk_42 (dk_at dksJ21_moveRootToFront_0 8 rfl rfl)
theorem dJ21_moveRootToFront_9 : decode cJ21_moveRootToFront 9 = .ok (.arraylength, 1) := dk_190 (dk_at dksJ21_moveRootToFront_0 9 rfl rfl)
theorem dJ21_moveRootToFront_10 : decode cJ21_moveRootToFront 10 = .ok (.dup, 1) := dk_89 (dk_at dksJ21_moveRootToFront_0 10 rfl rfl)
theorem dJ21_moveRootToFront_11 : decode cJ21_moveRootToFront 11 = .ok (.istore_n 2, 1) := dk_61 (dk_at dksJ21_moveRootToFront_0 11 rfl rfl)
theorem dJ21_moveRootToFront_12 : decode cJ21_moveRootToFront 12 = .ok (.ifCond .le 111, 3) := dk_158 0 111 (dk_at dksJ21_moveRootToFront_0 12 rfl rfl)
theorem dJ21_moveRootToFront_15 : decode cJ21_moveRootToFront 15 = .ok (.iload_n 2, 1) := dk_28 (dk_at dksJ21_moveRootToFront_0 15 rfl rfl)
theorem dJ21_moveRootToFront_16 : decode cJ21_moveRootToFront 16 = .ok (.iconst 1, 1) := dk_4 (dk_at dksJ21_moveRootToFront_0 16 rfl rfl)
theorem dJ21_moveRootToFront_17 : decode cJ21_moveRootToFront 17 = .ok (.isub, 1) := dk_100 (dk_at dksJ21_moveRootToFront_0 17 rfl rfl)
theorem dJ21_moveRootToFront_18 : decode cJ21_moveRootToFront 18 = .ok (.aload_n 1, 1) := dk_43 (dk_at dksJ21_moveRootToFront_0 18 rfl rfl)
theorem dJ21_moveRootToFront_19 : decode cJ21_moveRootToFront 19 = .ok (.getfield 15, 3) := dk_180 0 15 (dk_at dksJ21_moveRootToFront_0 19 rfl rfl)
theorem dJ21_moveRootToFront_22 : decode cJ21_moveRootToFront 22 = .ok (.iand, 1) := dk_126 (dk_at dksJ21_moveRootToFront_0 22 rfl rfl)
theorem dJ21_moveRootToFront_23 : decode cJ21_moveRootToFront 23 = .ok (.istore_n 3, 1) := dk_62 (dk_at dksJ21_moveRootToFront_0 23 rfl rfl)
theorem dJ21_moveRootToFront_24 : decode cJ21_moveRootToFront 24 = .ok (.aload_n 0, 1) := dk_42 (dk_at dksJ21_moveRootToFront_1 0 rfl rfl)
theorem dJ21_moveRootToFront_25 : decode cJ21_moveRootToFront 25 = .ok (.iload_n 3, 1) := dk_29 (dk_at dksJ21_moveRootToFront_1 1 rfl rfl)
theorem dJ21_moveRootToFront_26 : decode cJ21_moveRootToFront 26 = .ok (.aaload, 1) := dk_50 (dk_at dksJ21_moveRootToFront_1 2 rfl rfl)
theorem dJ21_moveRootToFront_27 : decode cJ21_moveRootToFront 27 = .ok (.checkcast 10, 3) := dk_192 0 10 (dk_at dksJ21_moveRootToFront_1 3 rfl rfl)
theorem dJ21_moveRootToFront_30 : decode cJ21_moveRootToFront 30 = .ok (.astore 4, 2) := dk_58 4 (dk_at dksJ21_moveRootToFront_1 6 rfl rfl)
theorem dJ21_moveRootToFront_32 : decode cJ21_moveRootToFront 32 = .ok (.aload_n 1, 1) := dk_43 (dk_at dksJ21_moveRootToFront_1 8 rfl rfl)
theorem dJ21_moveRootToFront_33 : decode cJ21_moveRootToFront 33 = .ok (.aload 4, 2) := dk_25 4 (dk_at dksJ21_moveRootToFront_1 9 rfl rfl)
theorem dJ21_moveRootToFront_35 : decode cJ21_moveRootToFront 35 = .ok (.if_acmp .eq 67, 3) := dk_165 0 67 (dk_at dksJ21_moveRootToFront_1 11 rfl rfl)
theorem dJ21_moveRootToFront_38 : decode cJ21_moveRootToFront 38 = .ok (.aload_n 0, 1) := dk_42 (dk_at dksJ21_moveRootToFront_1 14 rfl rfl)
theorem dJ21_moveRootToFront_39 : decode cJ21_moveRootToFront 39 = .ok (.iload_n 3, 1) := dk_29 (dk_at dksJ21_moveRootToFront_1 15 rfl rfl)
theorem dJ21_moveRootToFront_40 : decode cJ21_moveRootToFront 40 = .ok (.aload_n 1, 1) := dk_43 (dk_at dksJ21_moveRootToFront_1 16 rfl rfl)
theorem dJ21_moveRootToFront_41 : decode cJ21_moveRootToFront 41 = .ok (.aastore, 1) := dk_83 (dk_at dksJ21_moveRootToFront_1 17 rfl rfl)
theorem dJ21_moveRootToFront_42 : decode cJ21_moveRootToFront 42 = .ok (.aload_n 1, 1) := dk_43 (dk_at dksJ21_moveRootToFront_1 18 rfl rfl)
theorem dJ21_moveRootToFront_43 : decode cJ21_moveRootToFront 43 = .ok (.getfield 19, 3) := dk_180 0 19 (dk_at dksJ21_moveRootToFront_1 19 rfl rfl)
theorem dJ21_moveRootToFront_46 : decode cJ21_moveRootToFront 46 = .ok (.astore 6, 2) := dk_58 6 (dk_at dksJ21_moveRootToFront_1 22 rfl rfl)
theorem dJ21_moveRootToFront_48 : decode cJ21_moveRootToFront 48 = .ok (.aload_n 1, 1) := dk_43 (dk_at dksJ21_moveRootToFront_2 0 rfl rfl)
theorem dJ21_moveRootToFront_49 : decode cJ21_moveRootToFront 49 = .ok (.getfield 22, 3) := dk_180 0 22 (dk_at dksJ21_moveRootToFront_2 1 rfl rfl)
theorem dJ21_moveRootToFront_52 : decode cJ21_moveRootToFront 52 = .ok (.dup, 1) := dk_89 (dk_at dksJ21_moveRootToFront_2 4 rfl rfl)
theorem dJ21_moveRootToFront_53 : decode cJ21_moveRootToFront 53 = .ok (.astore 5, 2) := dk_58 5 (dk_at dksJ21_moveRootToFront_2 5 rfl rfl)
theorem dJ21_moveRootToFront_55 : decode cJ21_moveRootToFront 55 = .ok (.ifnull 13, 3) := dk_198 0 13 (dk_at dksJ21_moveRootToFront_2 7 rfl rfl)
theorem dJ21_moveRootToFront_58 : decode cJ21_moveRootToFront 58 = .ok (.aload 5, 2) := dk_25 5 (dk_at dksJ21_moveRootToFront_2 10 rfl rfl)
theorem dJ21_moveRootToFront_60 : decode cJ21_moveRootToFront 60 = .ok (.checkcast 10, 3) := dk_192 0 10 (dk_at dksJ21_moveRootToFront_2 12 rfl rfl)
theorem dJ21_moveRootToFront_63 : decode cJ21_moveRootToFront 63 = .ok (.aload 6, 2) := dk_25 6 (dk_at dksJ21_moveRootToFront_2 15 rfl rfl)
theorem dJ21_moveRootToFront_65 : decode cJ21_moveRootToFront 65 = .ok (.putfield 19, 3) := dk_181 0 19 (dk_at dksJ21_moveRootToFront_2 17 rfl rfl)
theorem dJ21_moveRootToFront_68 : decode cJ21_moveRootToFront 68 = .ok (.aload 6, 2) := dk_25 6 (dk_at dksJ21_moveRootToFront_2 20 rfl rfl)
theorem dJ21_moveRootToFront_70 : decode cJ21_moveRootToFront 70 = .ok (.ifnull 10, 3) := dk_198 0 10 (dk_at dksJ21_moveRootToFront_3 0 rfl rfl)
theorem dJ21_moveRootToFront_73 : decode cJ21_moveRootToFront 73 = .ok (.aload 6, 2) := dk_25 6 (dk_at dksJ21_moveRootToFront_3 3 rfl rfl)
theorem dJ21_moveRootToFront_75 : decode cJ21_moveRootToFront 75 = .ok (.aload 5, 2) := dk_25 5 (dk_at dksJ21_moveRootToFront_3 5 rfl rfl)
theorem dJ21_moveRootToFront_77 : decode cJ21_moveRootToFront 77 = .ok (.putfield 22, 3) := dk_181 0 22 (dk_at dksJ21_moveRootToFront_3 7 rfl rfl)
theorem dJ21_moveRootToFront_80 : decode cJ21_moveRootToFront 80 = .ok (.aload 4, 2) := dk_25 4 (dk_at dksJ21_moveRootToFront_3 10 rfl rfl)
theorem dJ21_moveRootToFront_82 : decode cJ21_moveRootToFront 82 = .ok (.ifnull 9, 3) := dk_198 0 9 (dk_at dksJ21_moveRootToFront_3 12 rfl rfl)
theorem dJ21_moveRootToFront_85 : decode cJ21_moveRootToFront 85 = .ok (.aload 4, 2) := dk_25 4 (dk_at dksJ21_moveRootToFront_3 15 rfl rfl)
theorem dJ21_moveRootToFront_87 : decode cJ21_moveRootToFront 87 = .ok (.aload_n 1, 1) := dk_43 (dk_at dksJ21_moveRootToFront_3 17 rfl rfl)
theorem dJ21_moveRootToFront_88 : decode cJ21_moveRootToFront 88 = .ok (.putfield 19, 3) := dk_181 0 19 (dk_at dksJ21_moveRootToFront_3 18 rfl rfl)
theorem dJ21_moveRootToFront_91 : decode cJ21_moveRootToFront 91 = .ok (.aload_n 1, 1) := dk_43 (dk_at dksJ21_moveRootToFront_3 21 rfl rfl)
theorem dJ21_moveRootToFront_92 : decode cJ21_moveRootToFront 92 = .ok (.aload 4, 2) := dk_25 4 (dk_at dksJ21_moveRootToFront_3 22 rfl rfl)
theorem dJ21_moveRootToFront_94 : decode cJ21_moveRootToFront 94 = .ok (.putfield 22, 3) := dk_181 0 22 (dk_at dksJ21_moveRootToFront_4 0 rfl rfl)
theorem dJ21_moveRootToFront_97 : decode cJ21_moveRootToFront 97 = .ok (.aload_n 1, 1) := dk_43 (dk_at dksJ21_moveRootToFront_4 3 rfl rfl)
theorem dJ21_moveRootToFront_98 : decode cJ21_moveRootToFront 98 = .ok (.aconst_null, 1) := dk_1 (dk_at dksJ21_moveRootToFront_4 4 rfl rfl)
theorem dJ21_moveRootToFront_99 : decode cJ21_moveRootToFront 99 = .ok (.putfield 19, 3) := dk_181 0 19 (dk_at dksJ21_moveRootToFront_4 5 rfl rfl)
theorem dJ21_moveRootToFront_102 : decode cJ21_moveRootToFront 102 = .ok (.getstatic 26, 3) := dk_178 0 26 (dk_at dksJ21_moveRootToFront_4 8 rfl rfl)
theorem dJ21_moveRootToFront_105 : decode cJ21_moveRootToFront 105 = .ok (.ifCond .ne 18, 3) := dk_154 0 18 (dk_at dksJ21_moveRootToFront_4 11 rfl rfl)
theorem dJ21_moveRootToFront_108 : decode cJ21_moveRootToFront 108 = .ok (.aload_n 1, 1) := dk_43 (dk_at dksJ21_moveRootToFront_4 14 rfl rfl)
theorem dJ21_moveRootToFront_109 : decode cJ21_moveRootToFront 109 = .ok (.invokestatic 30, 3) := dk_184 0 30 (dk_at dksJ21_moveRootToFront_4 15 rfl rfl)
theorem dJ21_moveRootToFront_112 : decode cJ21_moveRootToFront 112 = .ok (.ifCond .ne 11, 3) := dk_154 0 11 (dk_at dksJ21_moveRootToFront_4 18 rfl rfl)
theorem dJ21_moveRootToFront_115 : decode cJ21_moveRootToFront 115 = .ok (.new 34, 3) := dk_187 0 34 (dk_at dksJ21_moveRootToFront_4 21 rfl rfl)
theorem dJ21_moveRootToFront_118 : decode cJ21_moveRootToFront 118 = .ok (.dup, 1) := dk_89 (dk_at dksJ21_moveRootToFront_5 0 rfl rfl)
theorem dJ21_moveRootToFront_119 : decode cJ21_moveRootToFront 119 = .ok (.invokespecial 36, 3) := dk_183 0 36 (dk_at dksJ21_moveRootToFront_5 1 rfl rfl)
theorem dJ21_moveRootToFront_122 : decode cJ21_moveRootToFront 122 = .ok (.athrow, 1) := dk_191 (dk_at dksJ21_moveRootToFront_5 4 rfl rfl)
theorem dJ21_moveRootToFront_123 : decode cJ21_moveRootToFront 123 = .ok (.return_, 1) := dk_177 (dk_at dksJ21_moveRootToFront_5 5 rfl rfl)
abbrev cJ21_putTreeVal : ByteArray := prog_58_method_9_code
def yJ21_putTreeVal : MethodName := ⟨RJ21, "putTreeVal", "(Ljava/util/HashMap;[Ljava/util/HashMap$Node;ILjava/lang/Object;Ljava/lang/Object;)Ljava/util/HashMap$TreeNode;"⟩
def dkwJ21_putTreeVal_13 : List UInt8 := [184, 0, 100, 184, 0, 104, 1, 176, 167, 254, 228]
abbrev dktJ21_putTreeVal_13 : List UInt8 := dkwJ21_putTreeVal_13 ++ []
def dkwJ21_putTreeVal_12 : List UInt8 := [181, 0, 9, 25, 14, 198, 0, 13, 25, 14, 192, 0, 10, 25, 15, 181, 0, 19, 44, 25, 8, 25, 15]
abbrev dktJ21_putTreeVal_12 : List UInt8 := dkwJ21_putTreeVal_12 ++ dktJ21_putTreeVal_13
def dkwJ21_putTreeVal_11 : List UInt8 := [25, 15, 181, 0, 42, 25, 13, 25, 15, 181, 0, 22, 25, 15, 25, 15, 25, 13, 90, 181, 0, 19]
abbrev dktJ21_putTreeVal_11 : List UInt8 := dkwJ21_putTreeVal_11 ++ dktJ21_putTreeVal_12
def dkwJ21_putTreeVal_10 : List UInt8 := [25, 14, 182, 0, 115, 58, 15, 21, 10, 157, 0, 13, 25, 13, 25, 15, 181, 0, 39, 167, 0, 10, 25, 13]
abbrev dktJ21_putTreeVal_10 : List UInt8 := dkwJ21_putTreeVal_10 ++ dktJ21_putTreeVal_11
def dkwJ21_putTreeVal_9 : List UInt8 := [25, 9, 180, 0, 42, 89, 58, 9, 199, 0, 93, 25, 13, 180, 0, 22, 58, 14, 43, 29, 25, 4, 25, 5]
abbrev dktJ21_putTreeVal_9 : List UInt8 := dkwJ21_putTreeVal_9 ++ dktJ21_putTreeVal_10
def dkwJ21_putTreeVal_8 : List UInt8 := [25, 12, 184, 0, 96, 54, 10, 25, 9, 58, 13, 21, 10, 157, 0, 11, 25, 9, 180, 0, 39, 167, 0, 8]
abbrev dktJ21_putTreeVal_8 : List UInt8 := dkwJ21_putTreeVal_8 ++ dktJ21_putTreeVal_9
def dkwJ21_putTreeVal_7 : List UInt8 := [198, 0, 22, 25, 14, 29, 25, 4, 25, 6, 182, 0, 63, 89, 58, 13, 198, 0, 6, 25, 13, 176, 25, 4]
abbrev dktJ21_putTreeVal_7 : List UInt8 := dkwJ21_putTreeVal_7 ++ dktJ21_putTreeVal_8
def dkwJ21_putTreeVal_6 : List UInt8 := [29, 25, 4, 25, 6, 182, 0, 63, 89, 58, 13, 199, 0, 30, 25, 9, 180, 0, 42, 89, 58, 14]
abbrev dktJ21_putTreeVal_6 : List UInt8 := dkwJ21_putTreeVal_6 ++ dktJ21_putTreeVal_7
def dkwJ21_putTreeVal_5 : List UInt8 := [154, 0, 77, 21, 7, 154, 0, 63, 4, 54, 7, 25, 9, 180, 0, 39, 89, 58, 14, 198, 0, 19, 25, 14]
abbrev dktJ21_putTreeVal_5 : List UInt8 := dkwJ21_putTreeVal_5 ++ dktJ21_putTreeVal_6
def dkwJ21_putTreeVal_4 : List UInt8 := [25, 4, 184, 0, 55, 89, 58, 6, 198, 0, 18, 25, 6, 25, 4, 25, 12, 184, 0, 59, 89, 54, 10]
abbrev dktJ21_putTreeVal_4 : List UInt8 := dkwJ21_putTreeVal_4 ++ dktJ21_putTreeVal_5
def dkwJ21_putTreeVal_3 : List UInt8 := [25, 4, 198, 0, 16, 25, 4, 25, 12, 182, 0, 49, 153, 0, 6, 25, 9, 176, 25, 6, 199, 0, 14]
abbrev dktJ21_putTreeVal_3 : List UInt8 := dkwJ21_putTreeVal_3 ++ dktJ21_putTreeVal_4
def dkwJ21_putTreeVal_2 : List UInt8 := [29, 162, 0, 9, 4, 54, 10, 167, 0, 139, 25, 9, 180, 0, 45, 89, 58, 12, 25, 4, 165, 0, 18]
abbrev dktJ21_putTreeVal_2 : List UInt8 := dkwJ21_putTreeVal_2 ++ dktJ21_putTreeVal_3
def dkwJ21_putTreeVal_1 : List UInt8 := [25, 8, 58, 9, 25, 9, 180, 0, 15, 89, 54, 11, 29, 164, 0, 9, 2, 54, 10, 167, 0, 151, 21, 11]
abbrev dktJ21_putTreeVal_1 : List UInt8 := dkwJ21_putTreeVal_1 ++ dktJ21_putTreeVal_2
def dkwJ21_putTreeVal_0 : List UInt8 := [1, 58, 6, 3, 54, 7, 42, 180, 0, 9, 198, 0, 10, 42, 182, 0, 67, 167, 0, 4, 42, 58, 8]
abbrev dktJ21_putTreeVal_0 : List UInt8 := dkwJ21_putTreeVal_0 ++ dktJ21_putTreeVal_1
theorem dksJ21_putTreeVal_0 : cJ21_putTreeVal.data.toList.drop 0 = dktJ21_putTreeVal_0 := by decide +kernel
theorem dksJ21_putTreeVal_1 : cJ21_putTreeVal.data.toList.drop 23 = dktJ21_putTreeVal_1 := dk_seg dksJ21_putTreeVal_0 23 rfl rfl
theorem dksJ21_putTreeVal_2 : cJ21_putTreeVal.data.toList.drop 47 = dktJ21_putTreeVal_2 := dk_seg dksJ21_putTreeVal_1 24 rfl rfl
theorem dksJ21_putTreeVal_3 : cJ21_putTreeVal.data.toList.drop 70 = dktJ21_putTreeVal_3 := dk_seg dksJ21_putTreeVal_2 23 rfl rfl
theorem dksJ21_putTreeVal_4 : cJ21_putTreeVal.data.toList.drop 93 = dktJ21_putTreeVal_4 := dk_seg dksJ21_putTreeVal_3 23 rfl rfl
theorem dksJ21_putTreeVal_5 : cJ21_putTreeVal.data.toList.drop 116 = dktJ21_putTreeVal_5 := dk_seg dksJ21_putTreeVal_4 23 rfl rfl
theorem dksJ21_putTreeVal_6 : cJ21_putTreeVal.data.toList.drop 140 = dktJ21_putTreeVal_6 := dk_seg dksJ21_putTreeVal_5 24 rfl rfl
theorem dksJ21_putTreeVal_7 : cJ21_putTreeVal.data.toList.drop 162 = dktJ21_putTreeVal_7 := dk_seg dksJ21_putTreeVal_6 22 rfl rfl
theorem dksJ21_putTreeVal_8 : cJ21_putTreeVal.data.toList.drop 186 = dktJ21_putTreeVal_8 := dk_seg dksJ21_putTreeVal_7 24 rfl rfl
theorem dksJ21_putTreeVal_9 : cJ21_putTreeVal.data.toList.drop 210 = dktJ21_putTreeVal_9 := dk_seg dksJ21_putTreeVal_8 24 rfl rfl
theorem dksJ21_putTreeVal_10 : cJ21_putTreeVal.data.toList.drop 234 = dktJ21_putTreeVal_10 := dk_seg dksJ21_putTreeVal_9 24 rfl rfl
theorem dksJ21_putTreeVal_11 : cJ21_putTreeVal.data.toList.drop 258 = dktJ21_putTreeVal_11 := dk_seg dksJ21_putTreeVal_10 24 rfl rfl
theorem dksJ21_putTreeVal_12 : cJ21_putTreeVal.data.toList.drop 280 = dktJ21_putTreeVal_12 := dk_seg dksJ21_putTreeVal_11 22 rfl rfl
theorem dksJ21_putTreeVal_13 : cJ21_putTreeVal.data.toList.drop 303 = dktJ21_putTreeVal_13 := dk_seg dksJ21_putTreeVal_12 23 rfl rfl
theorem dJ21_putTreeVal_0 : decode cJ21_putTreeVal 0 = .ok (.aconst_null, 1) := dk_1 (dk_at dksJ21_putTreeVal_0 0 rfl rfl)
theorem dJ21_putTreeVal_1 : decode cJ21_putTreeVal 1 = .ok (.astore 6, 2) := dk_58 6 (dk_at dksJ21_putTreeVal_0 1 rfl rfl)
theorem dJ21_putTreeVal_3 : decode cJ21_putTreeVal 3 = .ok (.iconst 0, 1) := dk_3 (dk_at dksJ21_putTreeVal_0 3 rfl rfl)
theorem dJ21_putTreeVal_4 : decode cJ21_putTreeVal 4 = .ok (.istore 7, 2) := dk_54 7 (dk_at dksJ21_putTreeVal_0 4 rfl rfl)
theorem dJ21_putTreeVal_6 : decode cJ21_putTreeVal 6 = .ok (.aload_n 0, 1) := dk_42 (dk_at dksJ21_putTreeVal_0 6 rfl rfl)
theorem dJ21_putTreeVal_7 : decode cJ21_putTreeVal 7 = .ok (.getfield 9, 3) := dk_180 0 9 (dk_at dksJ21_putTreeVal_0 7 rfl rfl)
theorem dJ21_putTreeVal_10 : decode cJ21_putTreeVal 10 = .ok (.ifnull 10, 3) := dk_198 0 10 (dk_at dksJ21_putTreeVal_0 10 rfl rfl)
theorem dJ21_putTreeVal_13 : decode cJ21_putTreeVal 13 = .ok (.aload_n 0, 1) := dk_42 (dk_at dksJ21_putTreeVal_0 13 rfl rfl)
theorem dJ21_putTreeVal_14 : decode cJ21_putTreeVal 14 = .ok (.invokevirtual 67, 3) := dk_182 0 67 (dk_at dksJ21_putTreeVal_0 14 rfl rfl)
theorem dJ21_putTreeVal_17 : decode cJ21_putTreeVal 17 = .ok (.goto 4, 3) := dk_167 0 4 (dk_at dksJ21_putTreeVal_0 17 rfl rfl)
theorem dJ21_putTreeVal_20 : decode cJ21_putTreeVal 20 = .ok (.aload_n 0, 1) := dk_42 (dk_at dksJ21_putTreeVal_0 20 rfl rfl)
theorem dJ21_putTreeVal_21 : decode cJ21_putTreeVal 21 = .ok (.astore 8, 2) := dk_58 8 (dk_at dksJ21_putTreeVal_0 21 rfl rfl)
theorem dJ21_putTreeVal_23 : decode cJ21_putTreeVal 23 = .ok (.aload 8, 2) := dk_25 8 (dk_at dksJ21_putTreeVal_1 0 rfl rfl)
theorem dJ21_putTreeVal_25 : decode cJ21_putTreeVal 25 = .ok (.astore 9, 2) := dk_58 9 (dk_at dksJ21_putTreeVal_1 2 rfl rfl)
theorem dJ21_putTreeVal_27 : decode cJ21_putTreeVal 27 = .ok (.aload 9, 2) := dk_25 9 (dk_at dksJ21_putTreeVal_1 4 rfl rfl)
theorem dJ21_putTreeVal_29 : decode cJ21_putTreeVal 29 = .ok (.getfield 15, 3) := dk_180 0 15 (dk_at dksJ21_putTreeVal_1 6 rfl rfl)
theorem dJ21_putTreeVal_32 : decode cJ21_putTreeVal 32 = .ok (.dup, 1) := dk_89 (dk_at dksJ21_putTreeVal_1 9 rfl rfl)
theorem dJ21_putTreeVal_33 : decode cJ21_putTreeVal 33 = .ok (.istore 11, 2) := dk_54 11 (dk_at dksJ21_putTreeVal_1 10 rfl rfl)
theorem dJ21_putTreeVal_35 : decode cJ21_putTreeVal 35 = .ok (.iload_n 3, 1) := dk_29 (dk_at dksJ21_putTreeVal_1 12 rfl rfl)
theorem dJ21_putTreeVal_36 : decode cJ21_putTreeVal 36 = .ok (.if_icmp .le 9, 3) := dk_164 0 9 (dk_at dksJ21_putTreeVal_1 13 rfl rfl)
theorem dJ21_putTreeVal_39 : decode cJ21_putTreeVal 39 = .ok (.iconst (-1), 1) := dk_2 (dk_at dksJ21_putTreeVal_1 16 rfl rfl)
theorem dJ21_putTreeVal_40 : decode cJ21_putTreeVal 40 = .ok (.istore 10, 2) := dk_54 10 (dk_at dksJ21_putTreeVal_1 17 rfl rfl)
theorem dJ21_putTreeVal_42 : decode cJ21_putTreeVal 42 = .ok (.goto 151, 3) := dk_167 0 151 (dk_at dksJ21_putTreeVal_1 19 rfl rfl)
theorem dJ21_putTreeVal_45 : decode cJ21_putTreeVal 45 = .ok (.iload 11, 2) := dk_21 11 (dk_at dksJ21_putTreeVal_1 22 rfl rfl)
theorem dJ21_putTreeVal_47 : decode cJ21_putTreeVal 47 = .ok (.iload_n 3, 1) := dk_29 (dk_at dksJ21_putTreeVal_2 0 rfl rfl)
theorem dJ21_putTreeVal_48 : decode cJ21_putTreeVal 48 = .ok (.if_icmp .ge 9, 3) := dk_162 0 9 (dk_at dksJ21_putTreeVal_2 1 rfl rfl)
theorem dJ21_putTreeVal_51 : decode cJ21_putTreeVal 51 = .ok (.iconst 1, 1) := dk_4 (dk_at dksJ21_putTreeVal_2 4 rfl rfl)
theorem dJ21_putTreeVal_52 : decode cJ21_putTreeVal 52 = .ok (.istore 10, 2) := dk_54 10 (dk_at dksJ21_putTreeVal_2 5 rfl rfl)
theorem dJ21_putTreeVal_54 : decode cJ21_putTreeVal 54 = .ok (.goto 139, 3) := dk_167 0 139 (dk_at dksJ21_putTreeVal_2 7 rfl rfl)
theorem dJ21_putTreeVal_57 : decode cJ21_putTreeVal 57 = .ok (.aload 9, 2) := dk_25 9 (dk_at dksJ21_putTreeVal_2 10 rfl rfl)
theorem dJ21_putTreeVal_59 : decode cJ21_putTreeVal 59 = .ok (.getfield 45, 3) := dk_180 0 45 (dk_at dksJ21_putTreeVal_2 12 rfl rfl)
theorem dJ21_putTreeVal_62 : decode cJ21_putTreeVal 62 = .ok (.dup, 1) := dk_89 (dk_at dksJ21_putTreeVal_2 15 rfl rfl)
theorem dJ21_putTreeVal_63 : decode cJ21_putTreeVal 63 = .ok (.astore 12, 2) := dk_58 12 (dk_at dksJ21_putTreeVal_2 16 rfl rfl)
theorem dJ21_putTreeVal_65 : decode cJ21_putTreeVal 65 = .ok (.aload 4, 2) := dk_25 4 (dk_at dksJ21_putTreeVal_2 18 rfl rfl)
theorem dJ21_putTreeVal_67 : decode cJ21_putTreeVal 67 = .ok (.if_acmp .eq 18, 3) := dk_165 0 18 (dk_at dksJ21_putTreeVal_2 20 rfl rfl)
theorem dJ21_putTreeVal_70 : decode cJ21_putTreeVal 70 = .ok (.aload 4, 2) := dk_25 4 (dk_at dksJ21_putTreeVal_3 0 rfl rfl)
theorem dJ21_putTreeVal_72 : decode cJ21_putTreeVal 72 = .ok (.ifnull 16, 3) := dk_198 0 16 (dk_at dksJ21_putTreeVal_3 2 rfl rfl)
theorem dJ21_putTreeVal_75 : decode cJ21_putTreeVal 75 = .ok (.aload 4, 2) := dk_25 4 (dk_at dksJ21_putTreeVal_3 5 rfl rfl)
theorem dJ21_putTreeVal_77 : decode cJ21_putTreeVal 77 = .ok (.aload 12, 2) := dk_25 12 (dk_at dksJ21_putTreeVal_3 7 rfl rfl)
theorem dJ21_putTreeVal_79 : decode cJ21_putTreeVal 79 = .ok (.invokevirtual 49, 3) := dk_182 0 49 (dk_at dksJ21_putTreeVal_3 9 rfl rfl)
theorem dJ21_putTreeVal_82 : decode cJ21_putTreeVal 82 = .ok (.ifCond .eq 6, 3) := dk_153 0 6 (dk_at dksJ21_putTreeVal_3 12 rfl rfl)
theorem dJ21_putTreeVal_85 : decode cJ21_putTreeVal 85 = .ok (.aload 9, 2) := dk_25 9 (dk_at dksJ21_putTreeVal_3 15 rfl rfl)
theorem dJ21_putTreeVal_87 : decode cJ21_putTreeVal 87 = .ok (.areturn, 1) := dk_176 (dk_at dksJ21_putTreeVal_3 17 rfl rfl)
theorem dJ21_putTreeVal_88 : decode cJ21_putTreeVal 88 = .ok (.aload 6, 2) := dk_25 6 (dk_at dksJ21_putTreeVal_3 18 rfl rfl)
theorem dJ21_putTreeVal_90 : decode cJ21_putTreeVal 90 = .ok (.ifnonnull 14, 3) := dk_199 0 14 (dk_at dksJ21_putTreeVal_3 20 rfl rfl)
theorem dJ21_putTreeVal_93 : decode cJ21_putTreeVal 93 = .ok (.aload 4, 2) := dk_25 4 (dk_at dksJ21_putTreeVal_4 0 rfl rfl)
theorem dJ21_putTreeVal_95 : decode cJ21_putTreeVal 95 = .ok (.invokestatic 55, 3) := dk_184 0 55 (dk_at dksJ21_putTreeVal_4 2 rfl rfl)
theorem dJ21_putTreeVal_98 : decode cJ21_putTreeVal 98 = .ok (.dup, 1) := dk_89 (dk_at dksJ21_putTreeVal_4 5 rfl rfl)
theorem dJ21_putTreeVal_99 : decode cJ21_putTreeVal 99 = .ok (.astore 6, 2) := dk_58 6 (dk_at dksJ21_putTreeVal_4 6 rfl rfl)
theorem dJ21_putTreeVal_101 : decode cJ21_putTreeVal 101 = .ok (.ifnull 18, 3) := dk_198 0 18 (dk_at dksJ21_putTreeVal_4 8 rfl rfl)
theorem dJ21_putTreeVal_104 : decode cJ21_putTreeVal 104 = .ok (.aload 6, 2) := dk_25 6 (dk_at dksJ21_putTreeVal_4 11 rfl rfl)
theorem dJ21_putTreeVal_106 : decode cJ21_putTreeVal 106 = .ok (.aload 4, 2) := dk_25 4 (dk_at dksJ21_putTreeVal_4 13 rfl rfl)
theorem dJ21_putTreeVal_108 : decode cJ21_putTreeVal 108 = .ok (.aload 12, 2) := dk_25 12 (dk_at dksJ21_putTreeVal_4 15 rfl rfl)
theorem dJ21_putTreeVal_110 : decode cJ21_putTreeVal 110 = .ok (.invokestatic 59, 3) := dk_184 0 59 (dk_at dksJ21_putTreeVal_4 17 rfl rfl)
theorem dJ21_putTreeVal_113 : decode cJ21_putTreeVal 113 = .ok (.dup, 1) := dk_89 (dk_at dksJ21_putTreeVal_4 20 rfl rfl)
theorem dJ21_putTreeVal_114 : decode cJ21_putTreeVal 114 = .ok (.istore 10, 2) := dk_54 10 (dk_at dksJ21_putTreeVal_4 21 rfl rfl)
theorem dJ21_putTreeVal_116 : decode cJ21_putTreeVal 116 = .ok (.ifCond .ne 77, 3) := dk_154 0 77 (dk_at dksJ21_putTreeVal_5 0 rfl rfl)
theorem dJ21_putTreeVal_119 : decode cJ21_putTreeVal 119 = .ok (.iload 7, 2) := dk_21 7 (dk_at dksJ21_putTreeVal_5 3 rfl rfl)
theorem dJ21_putTreeVal_121 : decode cJ21_putTreeVal 121 = .ok (.ifCond .ne 63, 3) := dk_154 0 63 (dk_at dksJ21_putTreeVal_5 5 rfl rfl)
theorem dJ21_putTreeVal_124 : decode cJ21_putTreeVal 124 = .ok (.iconst 1, 1) := dk_4 (dk_at dksJ21_putTreeVal_5 8 rfl rfl)
theorem dJ21_putTreeVal_125 : decode cJ21_putTreeVal 125 = .ok (.istore 7, 2) := dk_54 7 (dk_at dksJ21_putTreeVal_5 9 rfl rfl)
theorem dJ21_putTreeVal_127 : decode cJ21_putTreeVal 127 = .ok (.aload 9, 2) := dk_25 9 (dk_at dksJ21_putTreeVal_5 11 rfl rfl)
theorem dJ21_putTreeVal_129 : decode cJ21_putTreeVal 129 = .ok (.getfield 39, 3) := dk_180 0 39 (dk_at dksJ21_putTreeVal_5 13 rfl rfl)
theorem dJ21_putTreeVal_132 : decode cJ21_putTreeVal 132 = .ok (.dup, 1) := dk_89 (dk_at dksJ21_putTreeVal_5 16 rfl rfl)
theorem dJ21_putTreeVal_133 : decode cJ21_putTreeVal 133 = .ok (.astore 14, 2) := dk_58 14 (dk_at dksJ21_putTreeVal_5 17 rfl rfl)
theorem dJ21_putTreeVal_135 : decode cJ21_putTreeVal 135 = .ok (.ifnull 19, 3) := dk_198 0 19 (dk_at dksJ21_putTreeVal_5 19 rfl rfl)
theorem dJ21_putTreeVal_138 : decode cJ21_putTreeVal 138 = .ok (.aload 14, 2) := dk_25 14 (dk_at dksJ21_putTreeVal_5 22 rfl rfl)
theorem dJ21_putTreeVal_140 : decode cJ21_putTreeVal 140 = .ok (.iload_n 3, 1) := dk_29 (dk_at dksJ21_putTreeVal_6 0 rfl rfl)
theorem dJ21_putTreeVal_141 : decode cJ21_putTreeVal 141 = .ok (.aload 4, 2) := dk_25 4 (dk_at dksJ21_putTreeVal_6 1 rfl rfl)
theorem dJ21_putTreeVal_143 : decode cJ21_putTreeVal 143 = .ok (.aload 6, 2) := dk_25 6 (dk_at dksJ21_putTreeVal_6 3 rfl rfl)
theorem dJ21_putTreeVal_145 : decode cJ21_putTreeVal 145 = .ok (.invokevirtual 63, 3) := dk_182 0 63 (dk_at dksJ21_putTreeVal_6 5 rfl rfl)
theorem dJ21_putTreeVal_148 : decode cJ21_putTreeVal 148 = .ok (.dup, 1) := dk_89 (dk_at dksJ21_putTreeVal_6 8 rfl rfl)
theorem dJ21_putTreeVal_149 : decode cJ21_putTreeVal 149 = .ok (.astore 13, 2) := dk_58 13 (dk_at dksJ21_putTreeVal_6 9 rfl rfl)
theorem dJ21_putTreeVal_151 : decode cJ21_putTreeVal 151 = .ok (.ifnonnull 30, 3) := dk_199 0 30 (dk_at dksJ21_putTreeVal_6 11 rfl rfl)
theorem dJ21_putTreeVal_154 : decode cJ21_putTreeVal 154 = .ok (.aload 9, 2) := dk_25 9 (dk_at dksJ21_putTreeVal_6 14 rfl rfl)
theorem dJ21_putTreeVal_156 : decode cJ21_putTreeVal 156 = .ok (.getfield 42, 3) := dk_180 0 42 (dk_at dksJ21_putTreeVal_6 16 rfl rfl)
theorem dJ21_putTreeVal_159 : decode cJ21_putTreeVal 159 = .ok (.dup, 1) := dk_89 (dk_at dksJ21_putTreeVal_6 19 rfl rfl)
theorem dJ21_putTreeVal_160 : decode cJ21_putTreeVal 160 = .ok (.astore 14, 2) := dk_58 14 (dk_at dksJ21_putTreeVal_6 20 rfl rfl)
theorem dJ21_putTreeVal_162 : decode cJ21_putTreeVal 162 = .ok (.ifnull 22, 3) := dk_198 0 22 (dk_at dksJ21_putTreeVal_7 0 rfl rfl)
theorem dJ21_putTreeVal_165 : decode cJ21_putTreeVal 165 = .ok (.aload 14, 2) := dk_25 14 (dk_at dksJ21_putTreeVal_7 3 rfl rfl)
theorem dJ21_putTreeVal_167 : decode cJ21_putTreeVal 167 = .ok (.iload_n 3, 1) := dk_29 (dk_at dksJ21_putTreeVal_7 5 rfl rfl)
theorem dJ21_putTreeVal_168 : decode cJ21_putTreeVal 168 = .ok (.aload 4, 2) := dk_25 4 (dk_at dksJ21_putTreeVal_7 6 rfl rfl)
theorem dJ21_putTreeVal_170 : decode cJ21_putTreeVal 170 = .ok (.aload 6, 2) := dk_25 6 (dk_at dksJ21_putTreeVal_7 8 rfl rfl)
theorem dJ21_putTreeVal_172 : decode cJ21_putTreeVal 172 = .ok (.invokevirtual 63, 3) := dk_182 0 63 (dk_at dksJ21_putTreeVal_7 10 rfl rfl)
theorem dJ21_putTreeVal_175 : decode cJ21_putTreeVal 175 = .ok (.dup, 1) := dk_89 (dk_at dksJ21_putTreeVal_7 13 rfl rfl)
theorem dJ21_putTreeVal_176 : decode cJ21_putTreeVal 176 = .ok (.astore 13, 2) := dk_58 13 (dk_at dksJ21_putTreeVal_7 14 rfl rfl)
theorem dJ21_putTreeVal_178 : decode cJ21_putTreeVal 178 = .ok (.ifnull 6, 3) := dk_198 0 6 (dk_at dksJ21_putTreeVal_7 16 rfl rfl)
theorem dJ21_putTreeVal_181 : decode cJ21_putTreeVal 181 = .ok (.aload 13, 2) := dk_25 13 (dk_at dksJ21_putTreeVal_7 19 rfl rfl)
theorem dJ21_putTreeVal_183 : decode cJ21_putTreeVal 183 = .ok (.areturn, 1) := dk_176 (dk_at dksJ21_putTreeVal_7 21 rfl rfl)
theorem dJ21_putTreeVal_184 : decode cJ21_putTreeVal 184 = .ok (.aload 4, 2) := dk_25 4 (dk_at dksJ21_putTreeVal_7 22 rfl rfl)
theorem dJ21_putTreeVal_186 : decode cJ21_putTreeVal 186 = .ok (.aload 12, 2) := dk_25 12 (dk_at dksJ21_putTreeVal_8 0 rfl rfl)
theorem dJ21_putTreeVal_188 : decode cJ21_putTreeVal 188 = .ok (.invokestatic 96, 3) := dk_184 0 96 (dk_at dksJ21_putTreeVal_8 2 rfl rfl)
theorem dJ21_putTreeVal_191 : decode cJ21_putTreeVal 191 = .ok (.istore 10, 2) := dk_54 10 (dk_at dksJ21_putTreeVal_8 5 rfl rfl)
theorem dJ21_putTreeVal_193 : decode cJ21_putTreeVal 193 = .ok (.aload 9, 2) := dk_25 9 (dk_at dksJ21_putTreeVal_8 7 rfl rfl)
theorem dJ21_putTreeVal_195 : decode cJ21_putTreeVal 195 = .ok (.astore 13, 2) := dk_58 13 (dk_at dksJ21_putTreeVal_8 9 rfl rfl)
theorem dJ21_putTreeVal_197 : decode cJ21_putTreeVal 197 = .ok (.iload 10, 2) := dk_21 10 (dk_at dksJ21_putTreeVal_8 11 rfl rfl)
theorem dJ21_putTreeVal_199 : decode cJ21_putTreeVal 199 = .ok (.ifCond .gt 11, 3) := dk_157 0 11 (dk_at dksJ21_putTreeVal_8 13 rfl rfl)
theorem dJ21_putTreeVal_202 : decode cJ21_putTreeVal 202 = .ok (.aload 9, 2) := dk_25 9 (dk_at dksJ21_putTreeVal_8 16 rfl rfl)
theorem dJ21_putTreeVal_204 : decode cJ21_putTreeVal 204 = .ok (.getfield 39, 3) := dk_180 0 39 (dk_at dksJ21_putTreeVal_8 18 rfl rfl)
theorem dJ21_putTreeVal_207 : decode cJ21_putTreeVal 207 = .ok (.goto 8, 3) := dk_167 0 8 (dk_at dksJ21_putTreeVal_8 21 rfl rfl)
theorem dJ21_putTreeVal_210 : decode cJ21_putTreeVal 210 = .ok (.aload 9, 2) := dk_25 9 (dk_at dksJ21_putTreeVal_9 0 rfl rfl)
theorem dJ21_putTreeVal_212 : decode cJ21_putTreeVal 212 = .ok (.getfield 42, 3) := dk_180 0 42 (dk_at dksJ21_putTreeVal_9 2 rfl rfl)
theorem dJ21_putTreeVal_215 : decode cJ21_putTreeVal 215 = .ok (.dup, 1) := dk_89 (dk_at dksJ21_putTreeVal_9 5 rfl rfl)
theorem dJ21_putTreeVal_216 : decode cJ21_putTreeVal 216 = .ok (.astore 9, 2) := dk_58 9 (dk_at dksJ21_putTreeVal_9 6 rfl rfl)
theorem dJ21_putTreeVal_218 : decode cJ21_putTreeVal 218 = .ok (.ifnonnull 93, 3) := dk_199 0 93 (dk_at dksJ21_putTreeVal_9 8 rfl rfl)
theorem dJ21_putTreeVal_221 : decode cJ21_putTreeVal 221 = .ok (.aload 13, 2) := dk_25 13 (dk_at dksJ21_putTreeVal_9 11 rfl rfl)
theorem dJ21_putTreeVal_223 : decode cJ21_putTreeVal 223 = .ok (.getfield 22, 3) := dk_180 0 22 (dk_at dksJ21_putTreeVal_9 13 rfl rfl)
theorem dJ21_putTreeVal_226 : decode cJ21_putTreeVal 226 = .ok (.astore 14, 2) := dk_58 14 (dk_at dksJ21_putTreeVal_9 16 rfl rfl)
theorem dJ21_putTreeVal_228 : decode cJ21_putTreeVal 228 = .ok (.aload_n 1, 1) := dk_43 (dk_at dksJ21_putTreeVal_9 18 rfl rfl)
theorem dJ21_putTreeVal_229 : decode cJ21_putTreeVal 229 = .ok (.iload_n 3, 1) := dk_29 (dk_at dksJ21_putTreeVal_9 19 rfl rfl)
theorem dJ21_putTreeVal_230 : decode cJ21_putTreeVal 230 = .ok (.aload 4, 2) := dk_25 4 (dk_at dksJ21_putTreeVal_9 20 rfl rfl)
theorem dJ21_putTreeVal_232 : decode cJ21_putTreeVal 232 = .ok (.aload 5, 2) := dk_25 5 (dk_at dksJ21_putTreeVal_9 22 rfl rfl)
theorem dJ21_putTreeVal_234 : decode cJ21_putTreeVal 234 = .ok (.aload 14, 2) := dk_25 14 (dk_at dksJ21_putTreeVal_10 0 rfl rfl)
theorem dJ21_putTreeVal_236 : decode cJ21_putTreeVal 236 = .ok (.invokevirtual 115, 3) := dk_182 0 115 (dk_at dksJ21_putTreeVal_10 2 rfl rfl)
theorem dJ21_putTreeVal_239 : decode cJ21_putTreeVal 239 = .ok (.astore 15, 2) := dk_58 15 (dk_at dksJ21_putTreeVal_10 5 rfl rfl)
theorem dJ21_putTreeVal_241 : decode cJ21_putTreeVal 241 = .ok (.iload 10, 2) := dk_21 10 (dk_at dksJ21_putTreeVal_10 7 rfl rfl)
theorem dJ21_putTreeVal_243 : decode cJ21_putTreeVal 243 = .ok (.ifCond .gt 13, 3) := dk_157 0 13 (dk_at dksJ21_putTreeVal_10 9 rfl rfl)
theorem dJ21_putTreeVal_246 : decode cJ21_putTreeVal 246 = .ok (.aload 13, 2) := dk_25 13 (dk_at dksJ21_putTreeVal_10 12 rfl rfl)
theorem dJ21_putTreeVal_248 : decode cJ21_putTreeVal 248 = .ok (.aload 15, 2) := dk_25 15 (dk_at dksJ21_putTreeVal_10 14 rfl rfl)
theorem dJ21_putTreeVal_250 : decode cJ21_putTreeVal 250 = .ok (.putfield 39, 3) := dk_181 0 39 (dk_at dksJ21_putTreeVal_10 16 rfl rfl)
theorem dJ21_putTreeVal_253 : decode cJ21_putTreeVal 253 = .ok (.goto 10, 3) := dk_167 0 10 (dk_at dksJ21_putTreeVal_10 19 rfl rfl)
theorem dJ21_putTreeVal_256 : decode cJ21_putTreeVal 256 = .ok (.aload 13, 2) := dk_25 13 (dk_at dksJ21_putTreeVal_10 22 rfl rfl)
theorem dJ21_putTreeVal_258 : decode cJ21_putTreeVal 258 = .ok (.aload 15, 2) := dk_25 15 (dk_at dksJ21_putTreeVal_11 0 rfl rfl)
theorem dJ21_putTreeVal_260 : decode cJ21_putTreeVal 260 = .ok (.putfield 42, 3) := dk_181 0 42 (dk_at dksJ21_putTreeVal_11 2 rfl rfl)
theorem dJ21_putTreeVal_263 : decode cJ21_putTreeVal 263 = .ok (.aload 13, 2) := dk_25 13 (dk_at dksJ21_putTreeVal_11 5 rfl rfl)
theorem dJ21_putTreeVal_265 : decode cJ21_putTreeVal 265 = .ok (.aload 15, 2) := dk_25 15 (dk_at dksJ21_putTreeVal_11 7 rfl rfl)
theorem dJ21_putTreeVal_267 : decode cJ21_putTreeVal 267 = .ok (.putfield 22, 3) := dk_181 0 22 (dk_at dksJ21_putTreeVal_11 9 rfl rfl)
theorem dJ21_putTreeVal_270 : decode cJ21_putTreeVal 270 = .ok (.aload 15, 2) := dk_25 15 (dk_at dksJ21_putTreeVal_11 12 rfl rfl)
theorem dJ21_putTreeVal_272 : decode cJ21_putTreeVal 272 = .ok (.aload 15, 2) := dk_25 15 (dk_at dksJ21_putTreeVal_11 14 rfl rfl)
theorem dJ21_putTreeVal_274 : decode cJ21_putTreeVal 274 = .ok (.aload 13, 2) := dk_25 13 (dk_at dksJ21_putTreeVal_11 16 rfl rfl)
theorem dJ21_putTreeVal_276 : decode cJ21_putTreeVal 276 = .ok (.dup_x1, 1) := dk_90 (dk_at dksJ21_putTreeVal_11 18 rfl rfl)
theorem dJ21_putTreeVal_277 : decode cJ21_putTreeVal 277 = .ok (.putfield 19, 3) := dk_181 0 19 (dk_at dksJ21_putTreeVal_11 19 rfl rfl)
theorem dJ21_putTreeVal_280 : decode cJ21_putTreeVal 280 = .ok (.putfield 9, 3) := dk_181 0 9 (dk_at dksJ21_putTreeVal_12 0 rfl rfl)
theorem dJ21_putTreeVal_283 : decode cJ21_putTreeVal 283 = .ok (.aload 14, 2) := dk_25 14 (dk_at dksJ21_putTreeVal_12 3 rfl rfl)
theorem dJ21_putTreeVal_285 : decode cJ21_putTreeVal 285 = .ok (.ifnull 13, 3) := dk_198 0 13 (dk_at dksJ21_putTreeVal_12 5 rfl rfl)
theorem dJ21_putTreeVal_288 : decode cJ21_putTreeVal 288 = .ok (.aload 14, 2) := dk_25 14 (dk_at dksJ21_putTreeVal_12 8 rfl rfl)
theorem dJ21_putTreeVal_290 : decode cJ21_putTreeVal 290 = .ok (.checkcast 10, 3) := dk_192 0 10 (dk_at dksJ21_putTreeVal_12 10 rfl rfl)
theorem dJ21_putTreeVal_293 : decode cJ21_putTreeVal 293 = .ok (.aload 15, 2) := dk_25 15 (dk_at dksJ21_putTreeVal_12 13 rfl rfl)
theorem dJ21_putTreeVal_295 : decode cJ21_putTreeVal 295 = .ok (.putfield 19, 3) := dk_181 0 19 (dk_at dksJ21_putTreeVal_12 15 rfl rfl)
theorem dJ21_putTreeVal_298 : decode cJ21_putTreeVal 298 = .ok (.aload_n 2, 1) := dk_44 (dk_at dksJ21_putTreeVal_12 18 rfl rfl)
theorem dJ21_putTreeVal_299 : decode cJ21_putTreeVal 299 = .ok (.aload 8, 2) := dk_25 8 (dk_at dksJ21_putTreeVal_12 19 rfl rfl)
theorem dJ21_putTreeVal_301 : decode cJ21_putTreeVal 301 = .ok (.aload 15, 2) := dk_25 15 (dk_at dksJ21_putTreeVal_12 21 rfl rfl)
theorem dJ21_putTreeVal_303 : decode cJ21_putTreeVal 303 = .ok (.invokestatic 100, 3) := dk_184 0 100 (dk_at dksJ21_putTreeVal_13 0 rfl rfl)
theorem dJ21_putTreeVal_306 : decode cJ21_putTreeVal 306 = .ok (.invokestatic 104, 3) := dk_184 0 104 (dk_at dksJ21_putTreeVal_13 3 rfl rfl)
theorem dJ21_putTreeVal_309 : decode cJ21_putTreeVal 309 = .ok (.aconst_null, 1) := dk_1 (dk_at dksJ21_putTreeVal_13 6 rfl rfl)
theorem dJ21_putTreeVal_310 : decode cJ21_putTreeVal 310 = .ok (.areturn, 1) := dk_176 (dk_at dksJ21_putTreeVal_13 7 rfl rfl)
theorem dJ21_putTreeVal_311 : decode cJ21_putTreeVal 311 = .ok (.goto (-284), 3) := dk_167 254 228 (dk_at dksJ21_putTreeVal_13 8 rfl rfl)
abbrev cJ21_init : ByteArray := prog_58_method_1_code
def yJ21_init : MethodName := ⟨RJ21, "<init>", "(ILjava/lang/Object;Ljava/lang/Object;Ljava/util/HashMap$Node;)V"⟩
def dkwJ21_init_0 : List UInt8 := [42, 27, 44, 45, 25, 4, 183, 0, 3, 177]
abbrev dktJ21_init_0 : List UInt8 := dkwJ21_init_0 ++ []
theorem dksJ21_init_0 : cJ21_init.data.toList.drop 0 = dktJ21_init_0 := by decide +kernel
theorem dJ21_init_0 : decode cJ21_init 0 = .ok (.aload_n 0, 1) := dk_42 (dk_at dksJ21_init_0 0 rfl rfl)
theorem dJ21_init_1 : decode cJ21_init 1 = .ok (.iload_n 1, 1) := dk_27 (dk_at dksJ21_init_0 1 rfl rfl)
theorem dJ21_init_2 : decode cJ21_init 2 = .ok (.aload_n 2, 1) := dk_44 (dk_at dksJ21_init_0 2 rfl rfl)
theorem dJ21_init_3 : decode cJ21_init 3 = .ok (.aload_n 3, 1) := dk_45 (dk_at dksJ21_init_0 3 rfl rfl)
theorem dJ21_init_4 : decode cJ21_init 4 = .ok (.aload 4, 2) := dk_25 4 (dk_at dksJ21_init_0 4 rfl rfl)
theorem dJ21_init_6 : decode cJ21_init 6 = .ok (.invokespecial 3, 3) := dk_183 0 3 (dk_at dksJ21_init_0 6 rfl rfl)
theorem dJ21_init_9 : decode cJ21_init 9 = .ok (.return_, 1) := dk_177 (dk_at dksJ21_init_0 9 rfl rfl)
theorem q121 : (Jvm.Cond.initialized "java/util/HashMap$TreeNode") ∈ lw_all := lw_g (lw_at lw_m1 29 rfl) rfl
theorem q449 : (Jvm.Cond.selects "java/util/HashMap$TreeNode" ({ cls := "java/lang/Object", name := "getClass", desc := "()Ljava/lang/Class;" } : Jvm.MethodName) ({ cls := "java/lang/Object", name := "getClass", desc := "()Ljava/lang/Class;" } : Jvm.MethodName)) ∈ lw_all := lw_g (lw_at lw_m2 117 rfl) rfl
theorem q622 : (Jvm.Cond.instanceMethod ({ cls := "java/util/HashMap$TreeNode", name := "getTreeNode", desc := "(ILjava/lang/Object;)Ljava/util/HashMap$TreeNode;" } : Jvm.MethodName)) ∈ lw_all := lw_g (lw_at lw_m3 50 rfl) rfl
theorem q623 : (Jvm.Cond.selects "java/util/HashMap$TreeNode" ({ cls := "java/util/HashMap$TreeNode", name := "getTreeNode", desc := "(ILjava/lang/Object;)Ljava/util/HashMap$TreeNode;" } : Jvm.MethodName) ({ cls := "java/util/HashMap$TreeNode", name := "getTreeNode", desc := "(ILjava/lang/Object;)Ljava/util/HashMap$TreeNode;" } : Jvm.MethodName)) ∈ lw_all := lw_g (lw_at lw_m3 51 rfl) rfl
theorem q624 : (Jvm.Cond.code ({ cls := "java/util/HashMap$TreeNode", name := "getTreeNode", desc := "(ILjava/lang/Object;)Ljava/util/HashMap$TreeNode;" } : Jvm.MethodName) prog_58_method_5_code (3 : Nat) (Option.some (Jvm.ClassFile.FieldType.object "java/util/HashMap$TreeNode"))) ∈ lw_all := lw_g (lw_at lw_m3 52 rfl) rfl
theorem q625 : (Jvm.Cond.methodLink "java/util/HashMap$TreeNode" (67 : Nat) ({ cls := "java/util/HashMap$TreeNode", name := "root", desc := "()Ljava/util/HashMap$TreeNode;" } : Jvm.MethodName)) ∈ lw_all := lw_g (lw_at lw_m3 53 rfl) rfl
theorem q626 : (Jvm.Cond.instanceMethod ({ cls := "java/util/HashMap$TreeNode", name := "root", desc := "()Ljava/util/HashMap$TreeNode;" } : Jvm.MethodName)) ∈ lw_all := lw_g (lw_at lw_m3 54 rfl) rfl
theorem q627 : (Jvm.Cond.selects "java/util/HashMap$TreeNode" ({ cls := "java/util/HashMap$TreeNode", name := "root", desc := "()Ljava/util/HashMap$TreeNode;" } : Jvm.MethodName) ({ cls := "java/util/HashMap$TreeNode", name := "root", desc := "()Ljava/util/HashMap$TreeNode;" } : Jvm.MethodName)) ∈ lw_all := lw_g (lw_at lw_m3 55 rfl) rfl
theorem q628 : (Jvm.Cond.code ({ cls := "java/util/HashMap$TreeNode", name := "root", desc := "()Ljava/util/HashMap$TreeNode;" } : Jvm.MethodName) prog_58_method_2_code (3 : Nat) (Option.some (Jvm.ClassFile.FieldType.object "java/util/HashMap$TreeNode"))) ∈ lw_all := lw_g (lw_at lw_m3 56 rfl) rfl
theorem q629 : (Jvm.Cond.methodLink "java/util/HashMap$TreeNode" (63 : Nat) ({ cls := "java/util/HashMap$TreeNode", name := "find", desc := "(ILjava/lang/Object;Ljava/lang/Class;)Ljava/util/HashMap$TreeNode;" } : Jvm.MethodName)) ∈ lw_all := lw_g (lw_at lw_m3 57 rfl) rfl
theorem q630 : (Jvm.Cond.instanceMethod ({ cls := "java/util/HashMap$TreeNode", name := "find", desc := "(ILjava/lang/Object;Ljava/lang/Class;)Ljava/util/HashMap$TreeNode;" } : Jvm.MethodName)) ∈ lw_all := lw_g (lw_at lw_m3 58 rfl) rfl
theorem q631 : (Jvm.Cond.selects "java/util/HashMap$TreeNode" ({ cls := "java/util/HashMap$TreeNode", name := "find", desc := "(ILjava/lang/Object;Ljava/lang/Class;)Ljava/util/HashMap$TreeNode;" } : Jvm.MethodName) ({ cls := "java/util/HashMap$TreeNode", name := "find", desc := "(ILjava/lang/Object;Ljava/lang/Class;)Ljava/util/HashMap$TreeNode;" } : Jvm.MethodName)) ∈ lw_all := lw_g (lw_at lw_m3 59 rfl) rfl
theorem q632 : (Jvm.Cond.code ({ cls := "java/util/HashMap$TreeNode", name := "find", desc := "(ILjava/lang/Object;Ljava/lang/Class;)Ljava/util/HashMap$TreeNode;" } : Jvm.MethodName) prog_58_method_4_code (11 : Nat) (Option.some (Jvm.ClassFile.FieldType.object "java/util/HashMap$TreeNode"))) ∈ lw_all := lw_g (lw_at lw_m3 60 rfl) rfl
theorem q633 : (Jvm.Cond.methodLink "java/util/HashMap$TreeNode" (49 : Nat) ({ cls := "java/lang/Object", name := "equals", desc := "(Ljava/lang/Object;)Z" } : Jvm.MethodName)) ∈ lw_all := lw_g (lw_at lw_m3 61 rfl) rfl
theorem q634 : (Jvm.Cond.methodLink "java/util/HashMap$TreeNode" (55 : Nat) ({ cls := "java/util/HashMap", name := "comparableClassFor", desc := "(Ljava/lang/Object;)Ljava/lang/Class;" } : Jvm.MethodName)) ∈ lw_all := lw_g (lw_at lw_m3 62 rfl) rfl
theorem q640 : (Jvm.Cond.methodLink "java/util/HashMap$TreeNode" (59 : Nat) ({ cls := "java/util/HashMap", name := "compareComparables", desc := "(Ljava/lang/Class;Ljava/lang/Object;Ljava/lang/Object;)I" } : Jvm.MethodName)) ∈ lw_all := lw_g (lw_at lw_m3 68 rfl) rfl
theorem q872 : (Jvm.Cond.instanceMethod ({ cls := "java/util/HashMap$TreeNode", name := "split", desc := "(Ljava/util/HashMap;[Ljava/util/HashMap$Node;II)V" } : Jvm.MethodName)) ∈ lw_all := lw_g (lw_at lw_m4 60 rfl) rfl
theorem q873 : (Jvm.Cond.selects "java/util/HashMap$TreeNode" ({ cls := "java/util/HashMap$TreeNode", name := "split", desc := "(Ljava/util/HashMap;[Ljava/util/HashMap$Node;II)V" } : Jvm.MethodName) ({ cls := "java/util/HashMap$TreeNode", name := "split", desc := "(Ljava/util/HashMap;[Ljava/util/HashMap$Node;II)V" } : Jvm.MethodName)) ∈ lw_all := lw_g (lw_at lw_m4 61 rfl) rfl
theorem q874 : (Jvm.Cond.code ({ cls := "java/util/HashMap$TreeNode", name := "split", desc := "(Ljava/util/HashMap;[Ljava/util/HashMap$Node;II)V" } : Jvm.MethodName) prog_58_method_11_code (14 : Nat) (Option.none : Option Jvm.ClassFile.FieldType)) ∈ lw_all := lw_g (lw_at lw_m4 62 rfl) rfl
theorem q875 : (Jvm.Cond.classLink "java/util/HashMap$TreeNode" (10 : Nat) "java/util/HashMap$TreeNode") ∈ lw_all := lw_g (lw_at lw_m4 63 rfl) rfl
theorem q876 : (Jvm.Cond.methodLink "java/util/HashMap$TreeNode" (119 : Nat) ({ cls := "java/util/HashMap$TreeNode", name := "untreeify", desc := "(Ljava/util/HashMap;)Ljava/util/HashMap$Node;" } : Jvm.MethodName)) ∈ lw_all := lw_g (lw_at lw_m4 64 rfl) rfl
theorem q877 : (Jvm.Cond.instanceMethod ({ cls := "java/util/HashMap$TreeNode", name := "untreeify", desc := "(Ljava/util/HashMap;)Ljava/util/HashMap$Node;" } : Jvm.MethodName)) ∈ lw_all := lw_g (lw_at lw_m4 65 rfl) rfl
theorem q878 : (Jvm.Cond.selects "java/util/HashMap$TreeNode" ({ cls := "java/util/HashMap$TreeNode", name := "untreeify", desc := "(Ljava/util/HashMap;)Ljava/util/HashMap$Node;" } : Jvm.MethodName) ({ cls := "java/util/HashMap$TreeNode", name := "untreeify", desc := "(Ljava/util/HashMap;)Ljava/util/HashMap$Node;" } : Jvm.MethodName)) ∈ lw_all := lw_g (lw_at lw_m4 66 rfl) rfl
theorem q879 : (Jvm.Cond.code ({ cls := "java/util/HashMap$TreeNode", name := "untreeify", desc := "(Ljava/util/HashMap;)Ljava/util/HashMap$Node;" } : Jvm.MethodName) prog_58_method_8_code (6 : Nat) (Option.some (Jvm.ClassFile.FieldType.object "java/util/HashMap$Node"))) ∈ lw_all := lw_g (lw_at lw_m4 67 rfl) rfl
theorem q880 : (Jvm.Cond.methodLink "java/util/HashMap$TreeNode" (108 : Nat) ({ cls := "java/util/HashMap", name := "replacementNode", desc := "(Ljava/util/HashMap$Node;Ljava/util/HashMap$Node;)Ljava/util/HashMap$Node;" } : Jvm.MethodName)) ∈ lw_all := lw_g (lw_at lw_m4 68 rfl) rfl
theorem q890 : (Jvm.Cond.fieldLink "java/util/HashMap$TreeNode" (15 : Nat) "java/util/HashMap$TreeNode" "hash" "I") ∈ lw_all := lw_g (lw_at lw_m4 78 rfl) rfl
theorem q891 : (Jvm.Cond.sameField "java/util/HashMap$TreeNode" "java/util/HashMap$Node" "hash" "I") ∈ lw_all := lw_g (lw_at lw_m4 79 rfl) rfl
theorem q894 : (Jvm.Cond.fieldLink "java/util/HashMap$TreeNode" (45 : Nat) "java/util/HashMap$TreeNode" "key" "Ljava/lang/Object;") ∈ lw_all := lw_g (lw_at lw_m4 82 rfl) rfl
theorem q895 : (Jvm.Cond.sameField "java/util/HashMap$TreeNode" "java/util/HashMap$Node" "key" "Ljava/lang/Object;") ∈ lw_all := lw_g (lw_at lw_m4 83 rfl) rfl
theorem q900 : (Jvm.Cond.fieldLink "java/util/HashMap$TreeNode" (22 : Nat) "java/util/HashMap$TreeNode" "next" "Ljava/util/HashMap$Node;") ∈ lw_all := lw_g (lw_at lw_m4 88 rfl) rfl
theorem q901 : (Jvm.Cond.sameField "java/util/HashMap$TreeNode" "java/util/HashMap$Node" "next" "Ljava/util/HashMap$Node;") ∈ lw_all := lw_g (lw_at lw_m4 89 rfl) rfl
theorem q902 : (Jvm.Cond.fieldLink "java/util/HashMap$TreeNode" (112 : Nat) "java/util/HashMap$Node" "next" "Ljava/util/HashMap$Node;") ∈ lw_all := lw_g (lw_at lw_m4 90 rfl) rfl
theorem q914 : (Jvm.Cond.methodLink "java/util/HashMap$TreeNode" (126 : Nat) ({ cls := "java/util/HashMap$TreeNode", name := "treeify", desc := "([Ljava/util/HashMap$Node;)V" } : Jvm.MethodName)) ∈ lw_all := lw_g (lw_at lw_m4 102 rfl) rfl
theorem q915 : (Jvm.Cond.instanceMethod ({ cls := "java/util/HashMap$TreeNode", name := "treeify", desc := "([Ljava/util/HashMap$Node;)V" } : Jvm.MethodName)) ∈ lw_all := lw_g (lw_at lw_m4 103 rfl) rfl
theorem q916 : (Jvm.Cond.selects "java/util/HashMap$TreeNode" ({ cls := "java/util/HashMap$TreeNode", name := "treeify", desc := "([Ljava/util/HashMap$Node;)V" } : Jvm.MethodName) ({ cls := "java/util/HashMap$TreeNode", name := "treeify", desc := "([Ljava/util/HashMap$Node;)V" } : Jvm.MethodName)) ∈ lw_all := lw_g (lw_at lw_m4 104 rfl) rfl
theorem q917 : (Jvm.Cond.code ({ cls := "java/util/HashMap$TreeNode", name := "treeify", desc := "([Ljava/util/HashMap$Node;)V" } : Jvm.MethodName) prog_58_method_7_code (13 : Nat) (Option.none : Option Jvm.ClassFile.FieldType)) ∈ lw_all := lw_g (lw_at lw_m4 105 rfl) rfl
theorem q918 : (Jvm.Cond.methodLink "java/util/HashMap$TreeNode" (100 : Nat) ({ cls := "java/util/HashMap$TreeNode", name := "balanceInsertion", desc := "(Ljava/util/HashMap$TreeNode;Ljava/util/HashMap$TreeNode;)Ljava/util/HashMap$TreeNode;" } : Jvm.MethodName)) ∈ lw_all := lw_g (lw_at lw_m4 106 rfl) rfl
theorem q919 : (Jvm.Cond.static ({ cls := "java/util/HashMap$TreeNode", name := "balanceInsertion", desc := "(Ljava/util/HashMap$TreeNode;Ljava/util/HashMap$TreeNode;)Ljava/util/HashMap$TreeNode;" } : Jvm.MethodName)) ∈ lw_all := lw_g (lw_at lw_m4 107 rfl) rfl
theorem q920 : (Jvm.Cond.code ({ cls := "java/util/HashMap$TreeNode", name := "balanceInsertion", desc := "(Ljava/util/HashMap$TreeNode;Ljava/util/HashMap$TreeNode;)Ljava/util/HashMap$TreeNode;" } : Jvm.MethodName) prog_58_method_14_code (6 : Nat) (Option.some (Jvm.ClassFile.FieldType.object "java/util/HashMap$TreeNode"))) ∈ lw_all := lw_g (lw_at lw_m4 108 rfl) rfl
theorem q921 : (Jvm.Cond.methodLink "java/util/HashMap$TreeNode" (130 : Nat) ({ cls := "java/util/HashMap$TreeNode", name := "rotateLeft", desc := "(Ljava/util/HashMap$TreeNode;Ljava/util/HashMap$TreeNode;)Ljava/util/HashMap$TreeNode;" } : Jvm.MethodName)) ∈ lw_all := lw_g (lw_at lw_m4 109 rfl) rfl
theorem q922 : (Jvm.Cond.static ({ cls := "java/util/HashMap$TreeNode", name := "rotateLeft", desc := "(Ljava/util/HashMap$TreeNode;Ljava/util/HashMap$TreeNode;)Ljava/util/HashMap$TreeNode;" } : Jvm.MethodName)) ∈ lw_all := lw_g (lw_at lw_m4 110 rfl) rfl
theorem q923 : (Jvm.Cond.code ({ cls := "java/util/HashMap$TreeNode", name := "rotateLeft", desc := "(Ljava/util/HashMap$TreeNode;Ljava/util/HashMap$TreeNode;)Ljava/util/HashMap$TreeNode;" } : Jvm.MethodName) prog_58_method_12_code (5 : Nat) (Option.some (Jvm.ClassFile.FieldType.object "java/util/HashMap$TreeNode"))) ∈ lw_all := lw_g (lw_at lw_m4 111 rfl) rfl
theorem q924 : (Jvm.Cond.methodLink "java/util/HashMap$TreeNode" (133 : Nat) ({ cls := "java/util/HashMap$TreeNode", name := "rotateRight", desc := "(Ljava/util/HashMap$TreeNode;Ljava/util/HashMap$TreeNode;)Ljava/util/HashMap$TreeNode;" } : Jvm.MethodName)) ∈ lw_all := lw_g (lw_at lw_m4 112 rfl) rfl
theorem q925 : (Jvm.Cond.static ({ cls := "java/util/HashMap$TreeNode", name := "rotateRight", desc := "(Ljava/util/HashMap$TreeNode;Ljava/util/HashMap$TreeNode;)Ljava/util/HashMap$TreeNode;" } : Jvm.MethodName)) ∈ lw_all := lw_g (lw_at lw_m4 113 rfl) rfl
theorem q926 : (Jvm.Cond.code ({ cls := "java/util/HashMap$TreeNode", name := "rotateRight", desc := "(Ljava/util/HashMap$TreeNode;Ljava/util/HashMap$TreeNode;)Ljava/util/HashMap$TreeNode;" } : Jvm.MethodName) prog_58_method_13_code (5 : Nat) (Option.some (Jvm.ClassFile.FieldType.object "java/util/HashMap$TreeNode"))) ∈ lw_all := lw_g (lw_at lw_m4 114 rfl) rfl
theorem q927 : (Jvm.Cond.methodLink "java/util/HashMap$TreeNode" (104 : Nat) ({ cls := "java/util/HashMap$TreeNode", name := "moveRootToFront", desc := "([Ljava/util/HashMap$Node;Ljava/util/HashMap$TreeNode;)V" } : Jvm.MethodName)) ∈ lw_all := lw_g (lw_at lw_m4 115 rfl) rfl
theorem q928 : (Jvm.Cond.static ({ cls := "java/util/HashMap$TreeNode", name := "moveRootToFront", desc := "([Ljava/util/HashMap$Node;Ljava/util/HashMap$TreeNode;)V" } : Jvm.MethodName)) ∈ lw_all := lw_g (lw_at lw_m4 116 rfl) rfl
theorem q929 : (Jvm.Cond.code ({ cls := "java/util/HashMap$TreeNode", name := "moveRootToFront", desc := "([Ljava/util/HashMap$Node;Ljava/util/HashMap$TreeNode;)V" } : Jvm.MethodName) prog_58_method_3_code (7 : Nat) (Option.none : Option Jvm.ClassFile.FieldType)) ∈ lw_all := lw_g (lw_at lw_m4 117 rfl) rfl
theorem q930 : (Jvm.Cond.fieldLink "java/util/HashMap$TreeNode" (26 : Nat) "java/util/HashMap$TreeNode" "$assertionsDisabled" "Z") ∈ lw_all := lw_g (lw_at lw_m4 118 rfl) rfl
theorem q931 : (Jvm.Cond.laysStatic "java/util/HashMap$TreeNode" "$assertionsDisabled" "Z") ∈ lw_tbl := lw_at lw_m4 119 rfl
theorem q937 : (Jvm.Cond.instanceMethod ({ cls := "java/util/HashMap$TreeNode", name := "putTreeVal", desc := "(Ljava/util/HashMap;[Ljava/util/HashMap$Node;ILjava/lang/Object;Ljava/lang/Object;)Ljava/util/HashMap$TreeNode;" } : Jvm.MethodName)) ∈ lw_all := lw_g (lw_at lw_m4 125 rfl) rfl
theorem q938 : (Jvm.Cond.selects "java/util/HashMap$TreeNode" ({ cls := "java/util/HashMap$TreeNode", name := "putTreeVal", desc := "(Ljava/util/HashMap;[Ljava/util/HashMap$Node;ILjava/lang/Object;Ljava/lang/Object;)Ljava/util/HashMap$TreeNode;" } : Jvm.MethodName) ({ cls := "java/util/HashMap$TreeNode", name := "putTreeVal", desc := "(Ljava/util/HashMap;[Ljava/util/HashMap$Node;ILjava/lang/Object;Ljava/lang/Object;)Ljava/util/HashMap$TreeNode;" } : Jvm.MethodName)) ∈ lw_all := lw_g (lw_at lw_m4 126 rfl) rfl
theorem q939 : (Jvm.Cond.code ({ cls := "java/util/HashMap$TreeNode", name := "putTreeVal", desc := "(Ljava/util/HashMap;[Ljava/util/HashMap$Node;ILjava/lang/Object;Ljava/lang/Object;)Ljava/util/HashMap$TreeNode;" } : Jvm.MethodName) prog_58_method_9_code (16 : Nat) (Option.some (Jvm.ClassFile.FieldType.object "java/util/HashMap$TreeNode"))) ∈ lw_all := lw_g (lw_at lw_m4 127 rfl) rfl
theorem q940 : (Jvm.Cond.methodLink "java/util/HashMap$TreeNode" (115 : Nat) ({ cls := "java/util/HashMap", name := "newTreeNode", desc := "(ILjava/lang/Object;Ljava/lang/Object;Ljava/util/HashMap$Node;)Ljava/util/HashMap$TreeNode;" } : Jvm.MethodName)) ∈ lw_all := lw_g (lw_at lw_m4 128 rfl) rfl
theorem q944 : (Jvm.Cond.instantiable "java/util/HashMap$TreeNode" (11 : Nat)) ∈ lw_all := lw_g (lw_at lw_m4 132 rfl) rfl
theorem q946 : (Jvm.Cond.instanceMethod ({ cls := "java/util/HashMap$TreeNode", name := "<init>", desc := "(ILjava/lang/Object;Ljava/lang/Object;Ljava/util/HashMap$Node;)V" } : Jvm.MethodName)) ∈ lw_all := lw_g (lw_at lw_m4 134 rfl) rfl
theorem q947 : (Jvm.Cond.code ({ cls := "java/util/HashMap$TreeNode", name := "<init>", desc := "(ILjava/lang/Object;Ljava/lang/Object;Ljava/util/HashMap$Node;)V" } : Jvm.MethodName) prog_58_method_1_code (5 : Nat) (Option.none : Option Jvm.ClassFile.FieldType)) ∈ lw_all := lw_g (lw_at lw_m4 135 rfl) rfl
theorem q948 : (Jvm.Cond.methodLink "java/util/HashMap$TreeNode" (3 : Nat) ({ cls := "java/util/LinkedHashMap$Entry", name := "<init>", desc := "(ILjava/lang/Object;Ljava/lang/Object;Ljava/util/HashMap$Node;)V" } : Jvm.MethodName)) ∈ lw_all := lw_g (lw_at lw_m4 136 rfl) rfl
theorem q952 : (Jvm.Cond.fieldLink "java/util/HashMap$TreeNode" (9 : Nat) "java/util/HashMap$TreeNode" "parent" "Ljava/util/HashMap$TreeNode;") ∈ lw_all := lw_g (lw_at lw_m4 140 rfl) rfl
theorem q953 : (Jvm.Cond.fieldLink "java/util/HashMap$TreeNode" (39 : Nat) "java/util/HashMap$TreeNode" "left" "Ljava/util/HashMap$TreeNode;") ∈ lw_all := lw_g (lw_at lw_m4 141 rfl) rfl
theorem q954 : (Jvm.Cond.fieldLink "java/util/HashMap$TreeNode" (42 : Nat) "java/util/HashMap$TreeNode" "right" "Ljava/util/HashMap$TreeNode;") ∈ lw_all := lw_g (lw_at lw_m4 142 rfl) rfl
theorem q955 : (Jvm.Cond.fieldLink "java/util/HashMap$TreeNode" (19 : Nat) "java/util/HashMap$TreeNode" "prev" "Ljava/util/HashMap$TreeNode;") ∈ lw_all := lw_g (lw_at lw_m4 143 rfl) rfl
theorem q957 : (Jvm.Cond.fieldLink "java/util/HashMap$TreeNode" (93 : Nat) "java/util/HashMap$TreeNode" "red" "Z") ∈ lw_all := lw_g (lw_at lw_m4 145 rfl) rfl
theorem q958 : (Jvm.Cond.lays "java/util/HashMap$TreeNode" "java/util/HashMap$TreeNode" "parent" "Ljava/util/HashMap$TreeNode;") ∈ lw_all := lw_g (lw_at lw_m4 146 rfl) rfl
theorem q959 : (Jvm.Cond.soleField "java/util/HashMap$TreeNode" "parent") ∈ lw_all := lw_g (lw_at lw_m4 147 rfl) rfl
theorem q960 : (Jvm.Cond.lays "java/util/HashMap$TreeNode" "java/util/HashMap$TreeNode" "left" "Ljava/util/HashMap$TreeNode;") ∈ lw_all := lw_g (lw_at lw_m4 148 rfl) rfl
theorem q961 : (Jvm.Cond.soleField "java/util/HashMap$TreeNode" "left") ∈ lw_all := lw_g (lw_at lw_m4 149 rfl) rfl
theorem q962 : (Jvm.Cond.lays "java/util/HashMap$TreeNode" "java/util/HashMap$TreeNode" "right" "Ljava/util/HashMap$TreeNode;") ∈ lw_all := lw_g (lw_at lw_m4 150 rfl) rfl
theorem q963 : (Jvm.Cond.soleField "java/util/HashMap$TreeNode" "right") ∈ lw_all := lw_g (lw_at lw_m4 151 rfl) rfl
theorem q964 : (Jvm.Cond.lays "java/util/HashMap$TreeNode" "java/util/HashMap$TreeNode" "prev" "Ljava/util/HashMap$TreeNode;") ∈ lw_all := lw_g (lw_at lw_m4 152 rfl) rfl
theorem q965 : (Jvm.Cond.soleField "java/util/HashMap$TreeNode" "prev") ∈ lw_all := lw_g (lw_at lw_m4 153 rfl) rfl
theorem q966 : (Jvm.Cond.lays "java/util/HashMap$TreeNode" "java/util/HashMap$TreeNode" "red" "Z") ∈ lw_all := lw_g (lw_at lw_m4 154 rfl) rfl
theorem q967 : (Jvm.Cond.soleField "java/util/HashMap$TreeNode" "red") ∈ lw_all := lw_g (lw_at lw_m4 155 rfl) rfl
theorem q968 : (Jvm.Cond.lays "java/util/HashMap$TreeNode" "java/util/LinkedHashMap$Entry" "before" "Ljava/util/LinkedHashMap$Entry;") ∈ lw_all := lw_g (lw_at lw_m4 156 rfl) rfl
theorem q970 : (Jvm.Cond.lays "java/util/HashMap$TreeNode" "java/util/LinkedHashMap$Entry" "after" "Ljava/util/LinkedHashMap$Entry;") ∈ lw_all := lw_g (lw_at lw_m4 158 rfl) rfl
theorem q972 : (Jvm.Cond.laysFinal "java/util/HashMap$TreeNode" "java/util/HashMap$Node" "hash" "I") ∈ lw_all := lw_g (lw_at lw_m4 160 rfl) rfl
theorem q973 : (Jvm.Cond.laysFinal "java/util/HashMap$TreeNode" "java/util/HashMap$Node" "key" "Ljava/lang/Object;") ∈ lw_all := lw_g (lw_at lw_m4 161 rfl) rfl
theorem q974 : (Jvm.Cond.lays "java/util/HashMap$TreeNode" "java/util/HashMap$Node" "value" "Ljava/lang/Object;") ∈ lw_all := lw_g (lw_at lw_m4 162 rfl) rfl
theorem q975 : (Jvm.Cond.lays "java/util/HashMap$TreeNode" "java/util/HashMap$Node" "next" "Ljava/util/HashMap$Node;") ∈ lw_all := lw_g (lw_at lw_m4 163 rfl) rfl
theorem q976 : (Jvm.Cond.superclass "java/util/HashMap$TreeNode" "java/util/LinkedHashMap$Entry") ∈ lw_all := lw_g (lw_at lw_m4 164 rfl) rfl
theorem q2944 : (Jvm.Cond.castable "java/util/HashMap$TreeNode" "java/lang/Object") ∈ lw_tbl := lw_at lw_m12 212 rfl
theorem q2966 : (Jvm.Cond.castable "java/util/HashMap$TreeNode" "java/util/HashMap$Node") ∈ lw_tbl := lw_at lw_m12 234 rfl
theorem in_J21 : ∀ w ∈ wsJ210, w ∈ lw_all := lw_in wsJ210 [968, 970, 972, 973, 974, 975, 958, 960, 962, 964, 966] (by decide +kernel) (by decide +kernel)

/-! java/lang/AbstractStringBuilder -/
set_option maxRecDepth 100000
def RJ22 : String := "java/lang/AbstractStringBuilder"
abbrev cJ22_isLatin1 : ByteArray := prog_26_method_68_code
def yJ22_isLatin1 : MethodName := ⟨RJ22, "isLatin1", "()Z"⟩
def dkwJ22_isLatin1_0 : List UInt8 := [178, 0, 18, 153, 0, 14, 42, 180, 0, 22, 154, 0, 7, 4, 167, 0, 4, 3, 172]
abbrev dktJ22_isLatin1_0 : List UInt8 := dkwJ22_isLatin1_0 ++ []
theorem dksJ22_isLatin1_0 : cJ22_isLatin1.data.toList.drop 0 = dktJ22_isLatin1_0 := by decide +kernel
theorem dJ22_isLatin1_0 : decode cJ22_isLatin1 0 = .ok (.getstatic 18, 3) := dk_178 0 18 (dk_at dksJ22_isLatin1_0 0 rfl rfl)
theorem dJ22_isLatin1_3 : decode cJ22_isLatin1 3 = .ok (.ifCond .eq 14, 3) := dk_153 0 14 (dk_at dksJ22_isLatin1_0 3 rfl rfl)
theorem dJ22_isLatin1_6 : decode cJ22_isLatin1 6 = .ok (.aload_n 0, 1) := dk_42 (dk_at dksJ22_isLatin1_0 6 rfl rfl)
theorem dJ22_isLatin1_7 : decode cJ22_isLatin1 7 = .ok (.getfield 22, 3) := dk_180 0 22 (dk_at dksJ22_isLatin1_0 7 rfl rfl)
theorem dJ22_isLatin1_10 : decode cJ22_isLatin1 10 = .ok (.ifCond .ne 7, 3) := dk_154 0 7 (dk_at dksJ22_isLatin1_0 10 rfl rfl)
theorem dJ22_isLatin1_13 : decode cJ22_isLatin1 13 = .ok (.iconst 1, 1) := dk_4 (dk_at dksJ22_isLatin1_0 13 rfl rfl)
theorem dJ22_isLatin1_14 : decode cJ22_isLatin1 14 = .ok (.goto 4, 3) := dk_167 0 4 (dk_at dksJ22_isLatin1_0 14 rfl rfl)
theorem dJ22_isLatin1_17 : decode cJ22_isLatin1 17 = .ok (.iconst 0, 1) := dk_3 (dk_at dksJ22_isLatin1_0 17 rfl rfl)
theorem dJ22_isLatin1_18 : decode cJ22_isLatin1 18 = .ok (.ireturn, 1) := dk_172 (dk_at dksJ22_isLatin1_0 18 rfl rfl)
abbrev cJ22_init : ByteArray := prog_26_method_2_code
def yJ22_init : MethodName := ⟨RJ22, "<init>", "(I)V"⟩
def dkwJ22_init_1 : List UInt8 := [167, 0, 16, 42, 27, 184, 0, 26, 181, 0, 15, 42, 4, 181, 0, 22, 177]
abbrev dktJ22_init_1 : List UInt8 := dkwJ22_init_1 ++ []
def dkwJ22_init_0 : List UInt8 := [42, 183, 0, 3, 178, 0, 18, 153, 0, 18, 42, 27, 188, 8, 181, 0, 15, 42, 3, 181, 0, 22]
abbrev dktJ22_init_0 : List UInt8 := dkwJ22_init_0 ++ dktJ22_init_1
theorem dksJ22_init_0 : cJ22_init.data.toList.drop 0 = dktJ22_init_0 := by decide +kernel
theorem dksJ22_init_1 : cJ22_init.data.toList.drop 22 = dktJ22_init_1 := dk_seg dksJ22_init_0 22 rfl rfl
theorem dJ22_init_0 : decode cJ22_init 0 = .ok (.aload_n 0, 1) := dk_42 (dk_at dksJ22_init_0 0 rfl rfl)
theorem dJ22_init_1 : decode cJ22_init 1 = .ok (.invokespecial 3, 3) := dk_183 0 3 (dk_at dksJ22_init_0 1 rfl rfl)
theorem dJ22_init_4 : decode cJ22_init 4 = .ok (.getstatic 18, 3) := dk_178 0 18 (dk_at dksJ22_init_0 4 rfl rfl)
theorem dJ22_init_7 : decode cJ22_init 7 = .ok (.ifCond .eq 18, 3) := dk_153 0 18 (dk_at dksJ22_init_0 7 rfl rfl)
theorem dJ22_init_10 : decode cJ22_init 10 = .ok (.aload_n 0, 1) := dk_42 (dk_at dksJ22_init_0 10 rfl rfl)
theorem dJ22_init_11 : decode cJ22_init 11 = .ok (.iload_n 1, 1) := dk_27 (dk_at dksJ22_init_0 11 rfl rfl)
theorem dJ22_init_12 : decode cJ22_init 12 = .ok (.newarray .byte, 2) := dk_188_8 (dk_at dksJ22_init_0 12 rfl rfl)
theorem dJ22_init_14 : decode cJ22_init 14 = .ok (.putfield 15, 3) := dk_181 0 15 (dk_at dksJ22_init_0 14 rfl rfl)
theorem dJ22_init_17 : decode cJ22_init 17 = .ok (.aload_n 0, 1) := dk_42 (dk_at dksJ22_init_0 17 rfl rfl)
theorem dJ22_init_18 : decode cJ22_init 18 = .ok (.iconst 0, 1) := dk_3 (dk_at dksJ22_init_0 18 rfl rfl)
theorem dJ22_init_19 : decode cJ22_init 19 = .ok (.putfield 22, 3) := dk_181 0 22 (dk_at dksJ22_init_0 19 rfl rfl)
theorem dJ22_init_22 : decode cJ22_init 22 = .ok (.goto 16, 3) := dk_167 0 16 (dk_at dksJ22_init_1 0 rfl rfl)
theorem dJ22_init_25 : decode cJ22_init 25 = .ok (.aload_n 0, 1) := dk_42 (dk_at dksJ22_init_1 3 rfl rfl)
theorem dJ22_init_26 : decode cJ22_init 26 = .ok (.iload_n 1, 1) := dk_27 (dk_at dksJ22_init_1 4 rfl rfl)
theorem dJ22_init_27 : decode cJ22_init 27 = .ok (.invokestatic 26, 3) := dk_184 0 26 (dk_at dksJ22_init_1 5 rfl rfl)
theorem dJ22_init_30 : decode cJ22_init 30 = .ok (.putfield 15, 3) := dk_181 0 15 (dk_at dksJ22_init_1 8 rfl rfl)
theorem dJ22_init_33 : decode cJ22_init 33 = .ok (.aload_n 0, 1) := dk_42 (dk_at dksJ22_init_1 11 rfl rfl)
theorem dJ22_init_34 : decode cJ22_init 34 = .ok (.iconst 1, 1) := dk_4 (dk_at dksJ22_init_1 12 rfl rfl)
theorem dJ22_init_35 : decode cJ22_init 35 = .ok (.putfield 22, 3) := dk_181 0 22 (dk_at dksJ22_init_1 13 rfl rfl)
theorem dJ22_init_38 : decode cJ22_init 38 = .ok (.return_, 1) := dk_177 (dk_at dksJ22_init_1 16 rfl rfl)
abbrev cJ22_append : ByteArray := prog_26_method_31_code
def yJ22_append : MethodName := ⟨RJ22, "append", "(C)Ljava/lang/AbstractStringBuilder;"⟩
def dkwJ22_append_3 : List UInt8 := [181, 0, 79, 27, 184, 0, 197, 42, 176]
abbrev dktJ22_append_3 : List UInt8 := dkwJ22_append_3 ++ []
def dkwJ22_append_2 : List UInt8 := [182, 0, 83, 153, 0, 7, 42, 182, 0, 195, 42, 180, 0, 15, 42, 89, 180, 0, 79, 90, 4, 96]
abbrev dktJ22_append_2 : List UInt8 := dkwJ22_append_2 ++ dktJ22_append_3
def dkwJ22_append_1 : List UInt8 := [42, 180, 0, 15, 42, 89, 180, 0, 79, 90, 4, 96, 181, 0, 79, 27, 145, 84, 167, 0, 33, 42]
abbrev dktJ22_append_1 : List UInt8 := dkwJ22_append_1 ++ dktJ22_append_2
def dkwJ22_append_0 : List UInt8 := [42, 42, 180, 0, 79, 4, 96, 182, 0, 100, 42, 182, 0, 83, 153, 0, 31, 27, 184, 0, 191, 153, 0, 24]
abbrev dktJ22_append_0 : List UInt8 := dkwJ22_append_0 ++ dktJ22_append_1
theorem dksJ22_append_0 : cJ22_append.data.toList.drop 0 = dktJ22_append_0 := by decide +kernel
theorem dksJ22_append_1 : cJ22_append.data.toList.drop 24 = dktJ22_append_1 := dk_seg dksJ22_append_0 24 rfl rfl
theorem dksJ22_append_2 : cJ22_append.data.toList.drop 46 = dktJ22_append_2 := dk_seg dksJ22_append_1 22 rfl rfl
theorem dksJ22_append_3 : cJ22_append.data.toList.drop 68 = dktJ22_append_3 := dk_seg dksJ22_append_2 22 rfl rfl
theorem dJ22_append_0 : decode cJ22_append 0 = .ok (.aload_n 0, 1) := dk_42 (dk_at dksJ22_append_0 0 rfl rfl)
theorem dJ22_append_1 : decode cJ22_append 1 = .ok (.aload_n 0, 1) := dk_42 (dk_at dksJ22_append_0 1 rfl rfl)
theorem dJ22_append_2 : decode cJ22_append 2 = .ok (.getfield 79, 3) := dk_180 0 79 (dk_at dksJ22_append_0 2 rfl rfl)
theorem dJ22_append_5 : decode cJ22_append 5 = .ok (.iconst 1, 1) := dk_4 (dk_at dksJ22_append_0 5 rfl rfl)
theorem dJ22_append_6 : decode cJ22_append 6 = .ok (.iadd, 1) := dk_96 (dk_at dksJ22_append_0 6 rfl rfl)
theorem dJ22_append_7 : decode cJ22_append 7 = .ok (.invokevirtual 100, 3) := dk_182 0 100 (dk_at dksJ22_append_0 7 rfl rfl)
theorem dJ22_append_10 : decode cJ22_append 10 = .ok (.aload_n 0, 1) := dk_42 (dk_at dksJ22_append_0 10 rfl rfl)
theorem dJ22_append_11 : decode cJ22_append 11 = .ok (.invokevirtual 83, 3) := dk_182 0 83 (dk_at dksJ22_append_0 11 rfl rfl)
theorem dJ22_append_14 : decode cJ22_append 14 = .ok (.ifCond .eq 31, 3) := dk_153 0 31 (dk_at dksJ22_append_0 14 rfl rfl)
theorem dJ22_append_17 : decode cJ22_append 17 = .ok (.iload_n 1, 1) := dk_27 (dk_at dksJ22_append_0 17 rfl rfl)
theorem dJ22_append_18 : decode cJ22_append 18 = .ok (.invokestatic 191, 3) := dk_184 0 191 (dk_at dksJ22_append_0 18 rfl rfl)
theorem dJ22_append_21 : decode cJ22_append 21 = .ok (.ifCond .eq 24, 3) := dk_153 0 24 (dk_at dksJ22_append_0 21 rfl rfl)
theorem dJ22_append_24 : decode cJ22_append 24 = .ok (.aload_n 0, 1) := dk_42 (dk_at dksJ22_append_1 0 rfl rfl)
theorem dJ22_append_25 : decode cJ22_append 25 = .ok (.getfield 15, 3) := dk_180 0 15 (dk_at dksJ22_append_1 1 rfl rfl)
theorem dJ22_append_28 : decode cJ22_append 28 = .ok (.aload_n 0, 1) := dk_42 (dk_at dksJ22_append_1 4 rfl rfl)
theorem dJ22_append_29 : decode cJ22_append 29 = .ok (.dup, 1) := dk_89 (dk_at dksJ22_append_1 5 rfl rfl)
theorem dJ22_append_30 : decode cJ22_append 30 = .ok (.getfield 79, 3) := dk_180 0 79 (dk_at dksJ22_append_1 6 rfl rfl)
theorem dJ22_append_33 : decode cJ22_append 33 = .ok (.dup_x1, 1) := dk_90 (dk_at dksJ22_append_1 9 rfl rfl)
theorem dJ22_append_34 : decode cJ22_append 34 = .ok (.iconst 1, 1) := dk_4 (dk_at dksJ22_append_1 10 rfl rfl)
theorem dJ22_append_35 : decode cJ22_append 35 = .ok (.iadd, 1) := dk_96 (dk_at dksJ22_append_1 11 rfl rfl)
theorem dJ22_append_36 : decode cJ22_append 36 = .ok (.putfield 79, 3) := dk_181 0 79 (dk_at dksJ22_append_1 12 rfl rfl)
theorem dJ22_append_39 : decode cJ22_append 39 = .ok (.iload_n 1, 1) := dk_27 (dk_at dksJ22_append_1 15 rfl rfl)
theorem dJ22_append_40 : decode cJ22_append 40 = .ok (.i2b, 1) := dk_145 (dk_at dksJ22_append_1 16 rfl rfl)
theorem dJ22_append_41 : decode cJ22_append 41 = .ok (.bastore, 1) := dk_84 (dk_at dksJ22_append_1 17 rfl rfl)
theorem dJ22_append_42 : decode cJ22_append 42 = .ok (.goto 33, 3) := dk_167 0 33 (dk_at dksJ22_append_1 18 rfl rfl)
theorem dJ22_append_45 : decode cJ22_append 45 = .ok (.aload_n 0, 1) := dk_42 (dk_at dksJ22_append_1 21 rfl rfl)
theorem dJ22_append_46 : decode cJ22_append 46 = .ok (.invokevirtual 83, 3) := dk_182 0 83 (dk_at dksJ22_append_2 0 rfl rfl)
theorem dJ22_append_49 : decode cJ22_append 49 = .ok (.ifCond .eq 7, 3) := dk_153 0 7 (dk_at dksJ22_append_2 3 rfl rfl)
theorem dJ22_append_52 : decode cJ22_append 52 = .ok (.aload_n 0, 1) := dk_42 (dk_at dksJ22_append_2 6 rfl rfl)
theorem dJ22_append_53 : decode cJ22_append 53 = .ok (.invokevirtual 195, 3) := dk_182 0 195 (dk_at dksJ22_append_2 7 rfl rfl)
theorem dJ22_append_56 : decode cJ22_append 56 = .ok (.aload_n 0, 1) := dk_42 (dk_at dksJ22_append_2 10 rfl rfl)
theorem dJ22_append_57 : decode cJ22_append 57 = .ok (.getfield 15, 3) := dk_180 0 15 (dk_at dksJ22_append_2 11 rfl rfl)
theorem dJ22_append_60 : decode cJ22_append 60 = .ok (.aload_n 0, 1) := dk_42 (dk_at dksJ22_append_2 14 rfl rfl)
theorem dJ22_append_61 : decode cJ22_append 61 = .ok (.dup, 1) := dk_89 (dk_at dksJ22_append_2 15 rfl rfl)
theorem dJ22_append_62 : decode cJ22_append 62 = .ok (.getfield 79, 3) := dk_180 0 79 (dk_at dksJ22_append_2 16 rfl rfl)
theorem dJ22_append_65 : decode cJ22_append 65 = .ok (.dup_x1, 1) := dk_90 (dk_at dksJ22_append_2 19 rfl rfl)
theorem dJ22_append_66 : decode cJ22_append 66 = .ok (.iconst 1, 1) := dk_4 (dk_at dksJ22_append_2 20 rfl rfl)
theorem dJ22_append_67 : decode cJ22_append 67 = .ok (.iadd, 1) := dk_96 (dk_at dksJ22_append_2 21 rfl rfl)
theorem dJ22_append_68 : decode cJ22_append 68 = .ok (.putfield 79, 3) := dk_181 0 79 (dk_at dksJ22_append_3 0 rfl rfl)
theorem dJ22_append_71 : decode cJ22_append 71 = .ok (.iload_n 1, 1) := dk_27 (dk_at dksJ22_append_3 3 rfl rfl)
theorem dJ22_append_72 : decode cJ22_append 72 = .ok (.invokestatic 197, 3) := dk_184 0 197 (dk_at dksJ22_append_3 4 rfl rfl)
theorem dJ22_append_75 : decode cJ22_append 75 = .ok (.aload_n 0, 1) := dk_42 (dk_at dksJ22_append_3 7 rfl rfl)
theorem dJ22_append_76 : decode cJ22_append 76 = .ok (.areturn, 1) := dk_176 (dk_at dksJ22_append_3 8 rfl rfl)
abbrev cJ22_ensureCapacityInternal : ByteArray := prog_26_method_9_code
def yJ22_ensureCapacityInternal : MethodName := ⟨RJ22, "ensureCapacityInternal", "(I)V"⟩
def dkwJ22_ensureCapacityInternal_1 : List UInt8 := [182, 0, 104, 42, 180, 0, 22, 120, 184, 0, 108, 181, 0, 15, 177]
abbrev dktJ22_ensureCapacityInternal_1 : List UInt8 := dkwJ22_ensureCapacityInternal_1 ++ []
def dkwJ22_ensureCapacityInternal_0 : List UInt8 := [42, 180, 0, 15, 190, 42, 180, 0, 22, 122, 61, 27, 28, 100, 158, 0, 24, 42, 42, 180, 0, 15, 42, 27]
abbrev dktJ22_ensureCapacityInternal_0 : List UInt8 := dkwJ22_ensureCapacityInternal_0 ++ dktJ22_ensureCapacityInternal_1
theorem dksJ22_ensureCapacityInternal_0 : cJ22_ensureCapacityInternal.data.toList.drop 0 = dktJ22_ensureCapacityInternal_0 := by decide +kernel
theorem dksJ22_ensureCapacityInternal_1 : cJ22_ensureCapacityInternal.data.toList.drop 24 = dktJ22_ensureCapacityInternal_1 := dk_seg dksJ22_ensureCapacityInternal_0 24 rfl rfl
theorem dJ22_ensureCapacityInternal_0 : decode cJ22_ensureCapacityInternal 0 = .ok (.aload_n 0, 1) := dk_42 (dk_at dksJ22_ensureCapacityInternal_0 0 rfl rfl)
theorem dJ22_ensureCapacityInternal_1 : decode cJ22_ensureCapacityInternal 1 = .ok (.getfield 15, 3) := dk_180 0 15 (dk_at dksJ22_ensureCapacityInternal_0 1 rfl rfl)
theorem dJ22_ensureCapacityInternal_4 : decode cJ22_ensureCapacityInternal 4 = .ok (.arraylength, 1) := dk_190 (dk_at dksJ22_ensureCapacityInternal_0 4 rfl rfl)
theorem dJ22_ensureCapacityInternal_5 : decode cJ22_ensureCapacityInternal 5 = .ok (.aload_n 0, 1) := dk_42 (dk_at dksJ22_ensureCapacityInternal_0 5 rfl rfl)
theorem dJ22_ensureCapacityInternal_6 : decode cJ22_ensureCapacityInternal 6 = .ok (.getfield 22, 3) := dk_180 0 22 (dk_at dksJ22_ensureCapacityInternal_0 6 rfl rfl)
theorem dJ22_ensureCapacityInternal_9 : decode cJ22_ensureCapacityInternal 9 = .ok (.ishr, 1) := dk_122 (dk_at dksJ22_ensureCapacityInternal_0 9 rfl rfl)
theorem dJ22_ensureCapacityInternal_10 : decode cJ22_ensureCapacityInternal 10 = .ok (.istore_n 2, 1) := dk_61 (dk_at dksJ22_ensureCapacityInternal_0 10 rfl rfl)
theorem dJ22_ensureCapacityInternal_11 : decode cJ22_ensureCapacityInternal 11 = .ok (.iload_n 1, 1) := dk_27 (dk_at dksJ22_ensureCapacityInternal_0 11 rfl rfl)
theorem dJ22_ensureCapacityInternal_12 : decode cJ22_ensureCapacityInternal 12 = .ok (.iload_n 2, 1) := dk_28 (dk_at dksJ22_ensureCapacityInternal_0 12 rfl rfl)
theorem dJ22_ensureCapacityInternal_13 : decode cJ22_ensureCapacityInternal 13 = .ok (.isub, 1) := dk_100 (dk_at dksJ22_ensureCapacityInternal_0 13 rfl rfl)
theorem dJ22_ensureCapacityInternal_14 : decode cJ22_ensureCapacityInternal 14 = .ok (.ifCond .le 24, 3) := dk_158 0 24 (dk_at dksJ22_ensureCapacityInternal_0 14 rfl rfl)
theorem dJ22_ensureCapacityInternal_17 : decode cJ22_ensureCapacityInternal 17 = .ok (.aload_n 0, 1) := dk_42 (dk_at dksJ22_ensureCapacityInternal_0 17 rfl rfl)
theorem dJ22_ensureCapacityInternal_18 : decode cJ22_ensureCapacityInternal 18 = .ok (.aload_n 0, 1) := dk_42 (dk_at dksJ22_ensureCapacityInternal_0 18 rfl rfl)
theorem dJ22_ensureCapacityInternal_19 : decode cJ22_ensureCapacityInternal 19 = .ok (.getfield 15, 3) := dk_180 0 15 (dk_at dksJ22_ensureCapacityInternal_0 19 rfl rfl)
theorem dJ22_ensureCapacityInternal_22 : decode cJ22_ensureCapacityInternal 22 = .ok (.aload_n 0, 1) := dk_42 (dk_at dksJ22_ensureCapacityInternal_0 22 rfl rfl)
theorem dJ22_ensureCapacityInternal_23 : decode cJ22_ensureCapacityInternal 23 = .ok (.iload_n 1, 1) := dk_27 (dk_at dksJ22_ensureCapacityInternal_0 23 rfl rfl)
theorem dJ22_ensureCapacityInternal_24 : decode cJ22_ensureCapacityInternal 24 = .ok (.invokevirtual 104, 3) := dk_182 0 104 (dk_at dksJ22_ensureCapacityInternal_1 0 rfl rfl)
theorem dJ22_ensureCapacityInternal_27 : decode cJ22_ensureCapacityInternal 27 = .ok (.aload_n 0, 1) := dk_42 (dk_at dksJ22_ensureCapacityInternal_1 3 rfl rfl)
theorem dJ22_ensureCapacityInternal_28 : decode cJ22_ensureCapacityInternal 28 = .ok (.getfield 22, 3) := dk_180 0 22 (dk_at dksJ22_ensureCapacityInternal_1 4 rfl rfl)
theorem dJ22_ensureCapacityInternal_31 : decode cJ22_ensureCapacityInternal 31 = .ok (.ishl, 1) := dk_120 (dk_at dksJ22_ensureCapacityInternal_1 7 rfl rfl)
theorem dJ22_ensureCapacityInternal_32 : decode cJ22_ensureCapacityInternal 32 = .ok (.invokestatic 108, 3) := dk_184 0 108 (dk_at dksJ22_ensureCapacityInternal_1 8 rfl rfl)
theorem dJ22_ensureCapacityInternal_35 : decode cJ22_ensureCapacityInternal 35 = .ok (.putfield 15, 3) := dk_181 0 15 (dk_at dksJ22_ensureCapacityInternal_1 11 rfl rfl)
theorem dJ22_ensureCapacityInternal_38 : decode cJ22_ensureCapacityInternal 38 = .ok (.return_, 1) := dk_177 (dk_at dksJ22_ensureCapacityInternal_1 14 rfl rfl)
abbrev cJ22_newCapacity : ByteArray := prog_26_method_10_code
def yJ22_newCapacity : MethodName := ⟨RJ22, "newCapacity", "(I)I"⟩
def dkwJ22_newCapacity_2 : List UInt8 := [183, 0, 124, 191, 21, 5, 42, 180, 0, 22, 122, 172]
abbrev dktJ22_newCapacity_2 : List UInt8 := dkwJ22_newCapacity_2 ++ []
def dkwJ22_newCapacity_1 : List UInt8 := [180, 0, 22, 120, 96, 184, 0, 114, 54, 5, 21, 5, 18, 39, 160, 0, 13, 187, 0, 120, 89, 18, 122]
abbrev dktJ22_newCapacity_1 : List UInt8 := dkwJ22_newCapacity_1 ++ dktJ22_newCapacity_2
def dkwJ22_newCapacity_0 : List UInt8 := [42, 180, 0, 15, 190, 61, 27, 42, 180, 0, 22, 120, 62, 29, 28, 100, 54, 4, 28, 21, 4, 28, 5, 42]
abbrev dktJ22_newCapacity_0 : List UInt8 := dkwJ22_newCapacity_0 ++ dktJ22_newCapacity_1
theorem dksJ22_newCapacity_0 : cJ22_newCapacity.data.toList.drop 0 = dktJ22_newCapacity_0 := by decide +kernel
theorem dksJ22_newCapacity_1 : cJ22_newCapacity.data.toList.drop 24 = dktJ22_newCapacity_1 := dk_seg dksJ22_newCapacity_0 24 rfl rfl
theorem dksJ22_newCapacity_2 : cJ22_newCapacity.data.toList.drop 47 = dktJ22_newCapacity_2 := dk_seg dksJ22_newCapacity_1 23 rfl rfl
theorem dJ22_newCapacity_0 : decode cJ22_newCapacity 0 = .ok (.aload_n 0, 1) := dk_42 (dk_at dksJ22_newCapacity_0 0 rfl rfl)
theorem dJ22_newCapacity_1 : decode cJ22_newCapacity 1 = .ok (.getfield 15, 3) := dk_180 0 15 (dk_at dksJ22_newCapacity_0 1 rfl rfl)
theorem dJ22_newCapacity_4 : decode cJ22_newCapacity 4 = .ok (.arraylength, 1) := dk_190 (dk_at dksJ22_newCapacity_0 4 rfl rfl)
theorem dJ22_newCapacity_5 : decode cJ22_newCapacity 5 = .ok (.istore_n 2, 1) := dk_61 (dk_at dksJ22_newCapacity_0 5 rfl rfl)
theorem dJ22_newCapacity_6 : decode cJ22_newCapacity 6 = .ok (.iload_n 1, 1) := dk_27 (dk_at dksJ22_newCapacity_0 6 rfl rfl)
theorem dJ22_newCapacity_7 : decode cJ22_newCapacity 7 = .ok (.aload_n 0, 1) := dk_42 (dk_at dksJ22_newCapacity_0 7 rfl rfl)
theorem dJ22_newCapacity_8 : decode cJ22_newCapacity 8 = .ok (.getfield 22, 3) := dk_180 0 22 (dk_at dksJ22_newCapacity_0 8 rfl rfl)
theorem dJ22_newCapacity_11 : decode cJ22_newCapacity 11 = .ok (.ishl, 1) := dk_120 (dk_at dksJ22_newCapacity_0 11 rfl rfl)
theorem dJ22_newCapacity_12 : decode cJ22_newCapacity 12 = .ok (.istore_n 3, 1) := dk_62 (dk_at dksJ22_newCapacity_0 12 rfl rfl)
theorem dJ22_newCapacity_13 : decode cJ22_newCapacity 13 = .ok (.iload_n 3, 1) := dk_29 (dk_at dksJ22_newCapacity_0 13 rfl rfl)
theorem dJ22_newCapacity_14 : decode cJ22_newCapacity 14 = .ok (.iload_n 2, 1) := dk_28 (dk_at dksJ22_newCapacity_0 14 rfl rfl)
theorem dJ22_newCapacity_15 : decode cJ22_newCapacity 15 = .ok (.isub, 1) := dk_100 (dk_at dksJ22_newCapacity_0 15 rfl rfl)
theorem dJ22_newCapacity_16 : decode cJ22_newCapacity 16 = .ok (.istore 4, 2) := dk_54 4 (dk_at dksJ22_newCapacity_0 16 rfl rfl)
theorem dJ22_newCapacity_18 : decode cJ22_newCapacity 18 = .ok (.iload_n 2, 1) := dk_28 (dk_at dksJ22_newCapacity_0 18 rfl rfl)
theorem dJ22_newCapacity_19 : decode cJ22_newCapacity 19 = .ok (.iload 4, 2) := dk_21 4 (dk_at dksJ22_newCapacity_0 19 rfl rfl)
theorem dJ22_newCapacity_21 : decode cJ22_newCapacity 21 = .ok (.iload_n 2, 1) := dk_28 (dk_at dksJ22_newCapacity_0 21 rfl rfl)
theorem dJ22_newCapacity_22 : decode cJ22_newCapacity 22 = .ok (.iconst 2, 1) := dk_5 (dk_at dksJ22_newCapacity_0 22 rfl rfl)
theorem dJ22_newCapacity_23 : decode cJ22_newCapacity 23 = .ok (.aload_n 0, 1) := dk_42 (dk_at dksJ22_newCapacity_0 23 rfl rfl)
theorem dJ22_newCapacity_24 : decode cJ22_newCapacity 24 = .ok (.getfield 22, 3) := dk_180 0 22 (dk_at dksJ22_newCapacity_1 0 rfl rfl)
theorem dJ22_newCapacity_27 : decode cJ22_newCapacity 27 = .ok (.ishl, 1) := dk_120 (dk_at dksJ22_newCapacity_1 3 rfl rfl)
theorem dJ22_newCapacity_28 : decode cJ22_newCapacity 28 = .ok (.iadd, 1) := dk_96 (dk_at dksJ22_newCapacity_1 4 rfl rfl)
theorem dJ22_newCapacity_29 : decode cJ22_newCapacity 29 = .ok (.invokestatic 114, 3) := dk_184 0 114 (dk_at dksJ22_newCapacity_1 5 rfl rfl)
theorem dJ22_newCapacity_32 : decode cJ22_newCapacity 32 = .ok (.istore 5, 2) := dk_54 5 (dk_at dksJ22_newCapacity_1 8 rfl rfl)
theorem dJ22_newCapacity_34 : decode cJ22_newCapacity 34 = .ok (.iload 5, 2) := dk_21 5 (dk_at dksJ22_newCapacity_1 10 rfl rfl)
theorem dJ22_newCapacity_36 : decode cJ22_newCapacity 36 = .ok (.ldc 39, 2) := dk_18 39 (dk_at dksJ22_newCapacity_1 12 rfl rfl)
theorem dJ22_newCapacity_38 : decode cJ22_newCapacity 38 = .ok (.if_icmp .ne 13, 3) := dk_160 0 13 (dk_at dksJ22_newCapacity_1 14 rfl rfl)
theorem dJ22_newCapacity_41 : decode cJ22_newCapacity 41 = .ok (.new 120, 3) := dk_187 0 120 (dk_at dksJ22_newCapacity_1 17 rfl rfl)
theorem dJ22_newCapacity_44 : decode cJ22_newCapacity 44 = .ok (.dup, 1) := dk_89 (dk_at dksJ22_newCapacity_1 20 rfl rfl)
theorem dJ22_newCapacity_45 : decode cJ22_newCapacity 45 = .ok (.ldc 122, 2) := dk_18 122 (dk_at dksJ22_newCapacity_1 21 rfl rfl)
theorem dJ22_newCapacity_47 : decode cJ22_newCapacity 47 = .ok (.invokespecial 124, 3) := dk_183 0 124 (dk_at dksJ22_newCapacity_2 0 rfl rfl)
theorem dJ22_newCapacity_50 : decode cJ22_newCapacity 50 = .ok (.athrow, 1) := dk_191 (dk_at dksJ22_newCapacity_2 3 rfl rfl)
theorem dJ22_newCapacity_51 : decode cJ22_newCapacity 51 = .ok (.iload 5, 2) := dk_21 5 (dk_at dksJ22_newCapacity_2 4 rfl rfl)
theorem dJ22_newCapacity_53 : decode cJ22_newCapacity 53 = .ok (.aload_n 0, 1) := dk_42 (dk_at dksJ22_newCapacity_2 6 rfl rfl)
theorem dJ22_newCapacity_54 : decode cJ22_newCapacity 54 = .ok (.getfield 22, 3) := dk_180 0 22 (dk_at dksJ22_newCapacity_2 7 rfl rfl)
theorem dJ22_newCapacity_57 : decode cJ22_newCapacity 57 = .ok (.ishr, 1) := dk_122 (dk_at dksJ22_newCapacity_2 10 rfl rfl)
theorem dJ22_newCapacity_58 : decode cJ22_newCapacity 58 = .ok (.ireturn, 1) := dk_172 (dk_at dksJ22_newCapacity_2 11 rfl rfl)
abbrev cJ22_getValue : ByteArray := prog_26_method_64_code
def yJ22_getValue : MethodName := ⟨RJ22, "getValue", "()[B"⟩
theorem dJ22_getValue_0 : decode cJ22_getValue 0 = .ok (.aload_n 0, 1) := by decide +kernel
theorem dJ22_getValue_1 : decode cJ22_getValue 1 = .ok (.getfield 15, 3) := by decide +kernel
theorem dJ22_getValue_4 : decode cJ22_getValue 4 = .ok (.areturn, 1) := by decide +kernel
abbrev cJ22_length : ByteArray := prog_26_method_6_code
def yJ22_length : MethodName := ⟨RJ22, "length", "()I"⟩
theorem dJ22_length_0 : decode cJ22_length 0 = .ok (.aload_n 0, 1) := by decide +kernel
theorem dJ22_length_1 : decode cJ22_length 1 = .ok (.getfield 79, 3) := by decide +kernel
theorem dJ22_length_4 : decode cJ22_length 4 = .ok (.ireturn, 1) := by decide +kernel
abbrev cJ22_append_2 : ByteArray := prog_26_method_22_code
def yJ22_append_2 : MethodName := ⟨RJ22, "append", "(Ljava/lang/String;)Ljava/lang/AbstractStringBuilder;"⟩
def dkwJ22_append_2_1 : List UInt8 := [42, 42, 180, 0, 79, 43, 182, 0, 208, 42, 89, 180, 0, 79, 28, 96, 181, 0, 79, 42, 176]
abbrev dktJ22_append_2_1 : List UInt8 := dkwJ22_append_2_1 ++ []
def dkwJ22_append_2_0 : List UInt8 := [43, 199, 0, 8, 42, 182, 0, 204, 176, 43, 182, 0, 32, 61, 42, 42, 180, 0, 79, 28, 96, 182, 0, 100]
abbrev dktJ22_append_2_0 : List UInt8 := dkwJ22_append_2_0 ++ dktJ22_append_2_1
theorem dksJ22_append_2_0 : cJ22_append_2.data.toList.drop 0 = dktJ22_append_2_0 := by decide +kernel
theorem dksJ22_append_2_1 : cJ22_append_2.data.toList.drop 24 = dktJ22_append_2_1 := dk_seg dksJ22_append_2_0 24 rfl rfl
theorem dJ22_append_2_0 : decode cJ22_append_2 0 = .ok (.aload_n 1, 1) := dk_43 (dk_at dksJ22_append_2_0 0 rfl rfl)
theorem dJ22_append_2_1 : decode cJ22_append_2 1 = .ok (.ifnonnull 8, 3) := dk_199 0 8 (dk_at dksJ22_append_2_0 1 rfl rfl)
theorem dJ22_append_2_4 : decode cJ22_append_2 4 = .ok (.aload_n 0, 1) := dk_42 (dk_at dksJ22_append_2_0 4 rfl rfl)
theorem dJ22_append_2_5 : decode cJ22_append_2 5 = .ok (.invokevirtual 204, 3) := dk_182 0 204 (dk_at dksJ22_append_2_0 5 rfl rfl)
theorem dJ22_append_2_8 : decode cJ22_append_2 8 = .ok (.areturn, 1) := dk_176 (dk_at dksJ22_append_2_0 8 rfl rfl)
theorem dJ22_append_2_9 : decode cJ22_append_2 9 = .ok (.aload_n 1, 1) := dk_43 (dk_at dksJ22_append_2_0 9 rfl rfl)
theorem dJ22_append_2_10 : decode cJ22_append_2 10 = .ok (.invokevirtual 32, 3) := dk_182 0 32 (dk_at dksJ22_append_2_0 10 rfl rfl)
theorem dJ22_append_2_13 : decode cJ22_append_2 13 = .ok (.istore_n 2, 1) := dk_61 (dk_at dksJ22_append_2_0 13 rfl rfl)
theorem dJ22_append_2_14 : decode cJ22_append_2 14 = .ok (.aload_n 0, 1) := dk_42 (dk_at dksJ22_append_2_0 14 rfl rfl)
theorem dJ22_append_2_15 : decode cJ22_append_2 15 = .ok (.aload_n 0, 1) := dk_42 (dk_at dksJ22_append_2_0 15 rfl rfl)
theorem dJ22_append_2_16 : decode cJ22_append_2 16 = .ok (.getfield 79, 3) := dk_180 0 79 (dk_at dksJ22_append_2_0 16 rfl rfl)
theorem dJ22_append_2_19 : decode cJ22_append_2 19 = .ok (.iload_n 2, 1) := dk_28 (dk_at dksJ22_append_2_0 19 rfl rfl)
theorem dJ22_append_2_20 : decode cJ22_append_2 20 = .ok (.iadd, 1) := dk_96 (dk_at dksJ22_append_2_0 20 rfl rfl)
theorem dJ22_append_2_21 : decode cJ22_append_2 21 = .ok (.invokevirtual 100, 3) := dk_182 0 100 (dk_at dksJ22_append_2_0 21 rfl rfl)
theorem dJ22_append_2_24 : decode cJ22_append_2 24 = .ok (.aload_n 0, 1) := dk_42 (dk_at dksJ22_append_2_1 0 rfl rfl)
theorem dJ22_append_2_25 : decode cJ22_append_2 25 = .ok (.aload_n 0, 1) := dk_42 (dk_at dksJ22_append_2_1 1 rfl rfl)
theorem dJ22_append_2_26 : decode cJ22_append_2 26 = .ok (.getfield 79, 3) := dk_180 0 79 (dk_at dksJ22_append_2_1 2 rfl rfl)
theorem dJ22_append_2_29 : decode cJ22_append_2 29 = .ok (.aload_n 1, 1) := dk_43 (dk_at dksJ22_append_2_1 5 rfl rfl)
theorem dJ22_append_2_30 : decode cJ22_append_2 30 = .ok (.invokevirtual 208, 3) := dk_182 0 208 (dk_at dksJ22_append_2_1 6 rfl rfl)
theorem dJ22_append_2_33 : decode cJ22_append_2 33 = .ok (.aload_n 0, 1) := dk_42 (dk_at dksJ22_append_2_1 9 rfl rfl)
theorem dJ22_append_2_34 : decode cJ22_append_2 34 = .ok (.dup, 1) := dk_89 (dk_at dksJ22_append_2_1 10 rfl rfl)
theorem dJ22_append_2_35 : decode cJ22_append_2 35 = .ok (.getfield 79, 3) := dk_180 0 79 (dk_at dksJ22_append_2_1 11 rfl rfl)
theorem dJ22_append_2_38 : decode cJ22_append_2 38 = .ok (.iload_n 2, 1) := dk_28 (dk_at dksJ22_append_2_1 14 rfl rfl)
theorem dJ22_append_2_39 : decode cJ22_append_2 39 = .ok (.iadd, 1) := dk_96 (dk_at dksJ22_append_2_1 15 rfl rfl)
theorem dJ22_append_2_40 : decode cJ22_append_2 40 = .ok (.putfield 79, 3) := dk_181 0 79 (dk_at dksJ22_append_2_1 16 rfl rfl)
theorem dJ22_append_2_43 : decode cJ22_append_2 43 = .ok (.aload_n 0, 1) := dk_42 (dk_at dksJ22_append_2_1 19 rfl rfl)
theorem dJ22_append_2_44 : decode cJ22_append_2 44 = .ok (.areturn, 1) := dk_176 (dk_at dksJ22_append_2_1 20 rfl rfl)
abbrev cJ22_putStringAt : ByteArray := prog_26_method_73_code
def yJ22_putStringAt : MethodName := ⟨RJ22, "putStringAt", "(ILjava/lang/String;)V"⟩
def dkwJ22_putStringAt_0 : List UInt8 := [42, 44, 182, 1, 141, 44, 42, 180, 0, 15, 27, 42, 180, 0, 22, 182, 1, 143, 177]
abbrev dktJ22_putStringAt_0 : List UInt8 := dkwJ22_putStringAt_0 ++ []
theorem dksJ22_putStringAt_0 : cJ22_putStringAt.data.toList.drop 0 = dktJ22_putStringAt_0 := by decide +kernel
theorem dJ22_putStringAt_0 : decode cJ22_putStringAt 0 = .ok (.aload_n 0, 1) := dk_42 (dk_at dksJ22_putStringAt_0 0 rfl rfl)
theorem dJ22_putStringAt_1 : decode cJ22_putStringAt 1 = .ok (.aload_n 2, 1) := dk_44 (dk_at dksJ22_putStringAt_0 1 rfl rfl)
theorem dJ22_putStringAt_2 : decode cJ22_putStringAt 2 = .ok (.invokevirtual 397, 3) := dk_182 1 141 (dk_at dksJ22_putStringAt_0 2 rfl rfl)
theorem dJ22_putStringAt_5 : decode cJ22_putStringAt 5 = .ok (.aload_n 2, 1) := dk_44 (dk_at dksJ22_putStringAt_0 5 rfl rfl)
theorem dJ22_putStringAt_6 : decode cJ22_putStringAt 6 = .ok (.aload_n 0, 1) := dk_42 (dk_at dksJ22_putStringAt_0 6 rfl rfl)
theorem dJ22_putStringAt_7 : decode cJ22_putStringAt 7 = .ok (.getfield 15, 3) := dk_180 0 15 (dk_at dksJ22_putStringAt_0 7 rfl rfl)
theorem dJ22_putStringAt_10 : decode cJ22_putStringAt 10 = .ok (.iload_n 1, 1) := dk_27 (dk_at dksJ22_putStringAt_0 10 rfl rfl)
theorem dJ22_putStringAt_11 : decode cJ22_putStringAt 11 = .ok (.aload_n 0, 1) := dk_42 (dk_at dksJ22_putStringAt_0 11 rfl rfl)
theorem dJ22_putStringAt_12 : decode cJ22_putStringAt 12 = .ok (.getfield 22, 3) := dk_180 0 22 (dk_at dksJ22_putStringAt_0 12 rfl rfl)
theorem dJ22_putStringAt_15 : decode cJ22_putStringAt 15 = .ok (.invokevirtual 399, 3) := dk_182 1 143 (dk_at dksJ22_putStringAt_0 15 rfl rfl)
theorem dJ22_putStringAt_18 : decode cJ22_putStringAt 18 = .ok (.return_, 1) := dk_177 (dk_at dksJ22_putStringAt_0 18 rfl rfl)
abbrev cJ22_inflateIfNeededFor : ByteArray := prog_26_method_71_code
def yJ22_inflateIfNeededFor : MethodName := ⟨RJ22, "inflateIfNeededFor", "(Ljava/lang/String;)V"⟩
def dkwJ22_inflateIfNeededFor_0 : List UInt8 := [178, 0, 18, 153, 0, 18, 42, 180, 0, 22, 43, 182, 0, 40, 159, 0, 7, 42, 182, 0, 195, 177]
abbrev dktJ22_inflateIfNeededFor_0 : List UInt8 := dkwJ22_inflateIfNeededFor_0 ++ []
theorem dksJ22_inflateIfNeededFor_0 : cJ22_inflateIfNeededFor.data.toList.drop 0 = dktJ22_inflateIfNeededFor_0 := by decide +kernel
theorem dJ22_inflateIfNeededFor_0 : decode cJ22_inflateIfNeededFor 0 = .ok (.getstatic 18, 3) := dk_178 0 18 (dk_at dksJ22_inflateIfNeededFor_0 0 rfl rfl)
theorem dJ22_inflateIfNeededFor_3 : decode cJ22_inflateIfNeededFor 3 = .ok (.ifCond .eq 18, 3) := dk_153 0 18 (dk_at dksJ22_inflateIfNeededFor_0 3 rfl rfl)
theorem dJ22_inflateIfNeededFor_6 : decode cJ22_inflateIfNeededFor 6 = .ok (.aload_n 0, 1) := dk_42 (dk_at dksJ22_inflateIfNeededFor_0 6 rfl rfl)
theorem dJ22_inflateIfNeededFor_7 : decode cJ22_inflateIfNeededFor 7 = .ok (.getfield 22, 3) := dk_180 0 22 (dk_at dksJ22_inflateIfNeededFor_0 7 rfl rfl)
theorem dJ22_inflateIfNeededFor_10 : decode cJ22_inflateIfNeededFor 10 = .ok (.aload_n 1, 1) := dk_43 (dk_at dksJ22_inflateIfNeededFor_0 10 rfl rfl)
theorem dJ22_inflateIfNeededFor_11 : decode cJ22_inflateIfNeededFor 11 = .ok (.invokevirtual 40, 3) := dk_182 0 40 (dk_at dksJ22_inflateIfNeededFor_0 11 rfl rfl)
theorem dJ22_inflateIfNeededFor_14 : decode cJ22_inflateIfNeededFor 14 = .ok (.if_icmp .eq 7, 3) := dk_159 0 7 (dk_at dksJ22_inflateIfNeededFor_0 14 rfl rfl)
theorem dJ22_inflateIfNeededFor_17 : decode cJ22_inflateIfNeededFor 17 = .ok (.aload_n 0, 1) := dk_42 (dk_at dksJ22_inflateIfNeededFor_0 17 rfl rfl)
theorem dJ22_inflateIfNeededFor_18 : decode cJ22_inflateIfNeededFor 18 = .ok (.invokevirtual 195, 3) := dk_182 0 195 (dk_at dksJ22_inflateIfNeededFor_0 18 rfl rfl)
theorem dJ22_inflateIfNeededFor_21 : decode cJ22_inflateIfNeededFor 21 = .ok (.return_, 1) := dk_177 (dk_at dksJ22_inflateIfNeededFor_0 21 rfl rfl)
theorem q124 : (Jvm.Cond.initialized "java/lang/AbstractStringBuilder") ∈ lw_all := lw_g (lw_at lw_m1 32 rfl) rfl
theorem q823 : (Jvm.Cond.instanceMethod ({ cls := "java/lang/AbstractStringBuilder", name := "compareTo", desc := "(Ljava/lang/AbstractStringBuilder;)I" } : Jvm.MethodName)) ∈ lw_all := lw_g (lw_at lw_m4 11 rfl) rfl
theorem q824 : (Jvm.Cond.code ({ cls := "java/lang/AbstractStringBuilder", name := "compareTo", desc := "(Ljava/lang/AbstractStringBuilder;)I" } : Jvm.MethodName) prog_26_method_5_code (6 : Nat) (Option.some Jvm.ClassFile.FieldType.int)) ∈ lw_all := lw_g (lw_at lw_m4 12 rfl) rfl
theorem q825 : (Jvm.Cond.methodLink "java/lang/AbstractStringBuilder" (83 : Nat) ({ cls := "java/lang/AbstractStringBuilder", name := "isLatin1", desc := "()Z" } : Jvm.MethodName)) ∈ lw_all := lw_g (lw_at lw_m4 13 rfl) rfl
theorem q826 : (Jvm.Cond.instanceMethod ({ cls := "java/lang/AbstractStringBuilder", name := "isLatin1", desc := "()Z" } : Jvm.MethodName)) ∈ lw_all := lw_g (lw_at lw_m4 14 rfl) rfl
theorem q827 : (Jvm.Cond.sameMethod "java/lang/AbstractStringBuilder" "java/lang/AbstractStringBuilder" "isLatin1" "()Z") ∈ lw_all := lw_g (lw_at lw_m4 15 rfl) rfl
theorem q829 : (Jvm.Cond.code ({ cls := "java/lang/AbstractStringBuilder", name := "isLatin1", desc := "()Z" } : Jvm.MethodName) prog_26_method_68_code (1 : Nat) (Option.some Jvm.ClassFile.FieldType.boolean)) ∈ lw_all := lw_g (lw_at lw_m4 17 rfl) rfl
theorem q830 : (Jvm.Cond.fieldLink "java/lang/AbstractStringBuilder" (18 : Nat) "java/lang/String" "COMPACT_STRINGS" "Z") ∈ lw_all := lw_g (lw_at lw_m4 18 rfl) rfl
theorem q831 : (Jvm.Cond.methodLink "java/lang/AbstractStringBuilder" (87 : Nat) ({ cls := "java/lang/StringLatin1", name := "compareTo", desc := "([B[BII)I" } : Jvm.MethodName)) ∈ lw_all := lw_g (lw_at lw_m4 19 rfl) rfl
theorem q832 : (Jvm.Cond.methodLink "java/lang/AbstractStringBuilder" (93 : Nat) ({ cls := "java/lang/StringUTF16", name := "compareTo", desc := "([B[BII)I" } : Jvm.MethodName)) ∈ lw_all := lw_g (lw_at lw_m4 20 rfl) rfl
theorem q846 : (Jvm.Cond.methodLink "java/lang/AbstractStringBuilder" (94 : Nat) ({ cls := "java/lang/StringLatin1", name := "compareToUTF16", desc := "([B[BII)I" } : Jvm.MethodName)) ∈ lw_all := lw_g (lw_at lw_m4 34 rfl) rfl
theorem q850 : (Jvm.Cond.methodLink "java/lang/AbstractStringBuilder" (97 : Nat) ({ cls := "java/lang/StringUTF16", name := "compareToLatin1", desc := "([B[BII)I" } : Jvm.MethodName)) ∈ lw_all := lw_g (lw_at lw_m4 38 rfl) rfl
theorem q1126 : (Jvm.Cond.instanceMethod ({ cls := "java/lang/AbstractStringBuilder", name := "<init>", desc := "(I)V" } : Jvm.MethodName)) ∈ lw_all := lw_g (lw_at lw_m5 74 rfl) rfl
theorem q1127 : (Jvm.Cond.code ({ cls := "java/lang/AbstractStringBuilder", name := "<init>", desc := "(I)V" } : Jvm.MethodName) prog_26_method_2_code (2 : Nat) (Option.none : Option Jvm.ClassFile.FieldType)) ∈ lw_all := lw_g (lw_at lw_m5 75 rfl) rfl
theorem q1128 : (Jvm.Cond.methodLink "java/lang/AbstractStringBuilder" (3 : Nat) ({ cls := "java/lang/Object", name := "<init>", desc := "()V" } : Jvm.MethodName)) ∈ lw_all := lw_g (lw_at lw_m5 76 rfl) rfl
theorem q1129 : (Jvm.Cond.methodLink "java/lang/AbstractStringBuilder" (26 : Nat) ({ cls := "java/lang/StringUTF16", name := "newBytesFor", desc := "(I)[B" } : Jvm.MethodName)) ∈ lw_all := lw_g (lw_at lw_m5 77 rfl) rfl
theorem q1136 : (Jvm.Cond.fieldLink "java/lang/AbstractStringBuilder" (15 : Nat) "java/lang/AbstractStringBuilder" "value" "[B") ∈ lw_all := lw_g (lw_at lw_m5 84 rfl) rfl
theorem q1137 : (Jvm.Cond.fieldLink "java/lang/AbstractStringBuilder" (22 : Nat) "java/lang/AbstractStringBuilder" "coder" "B") ∈ lw_all := lw_g (lw_at lw_m5 85 rfl) rfl
theorem q1139 : (Jvm.Cond.fieldLink "java/lang/AbstractStringBuilder" (79 : Nat) "java/lang/AbstractStringBuilder" "count" "I") ∈ lw_all := lw_g (lw_at lw_m5 87 rfl) rfl
theorem q1141 : (Jvm.Cond.soleField "java/lang/AbstractStringBuilder" "value") ∈ lw_all := lw_g (lw_at lw_m5 89 rfl) rfl
theorem q1143 : (Jvm.Cond.soleField "java/lang/AbstractStringBuilder" "coder") ∈ lw_all := lw_g (lw_at lw_m5 91 rfl) rfl
theorem q1145 : (Jvm.Cond.soleField "java/lang/AbstractStringBuilder" "maybeLatin1") ∈ lw_all := lw_g (lw_at lw_m5 93 rfl) rfl
theorem q1147 : (Jvm.Cond.soleField "java/lang/AbstractStringBuilder" "count") ∈ lw_all := lw_g (lw_at lw_m5 95 rfl) rfl
theorem q1153 : (Jvm.Cond.instanceMethod ({ cls := "java/lang/AbstractStringBuilder", name := "append", desc := "(C)Ljava/lang/AbstractStringBuilder;" } : Jvm.MethodName)) ∈ lw_all := lw_g (lw_at lw_m5 101 rfl) rfl
theorem q1154 : (Jvm.Cond.code ({ cls := "java/lang/AbstractStringBuilder", name := "append", desc := "(C)Ljava/lang/AbstractStringBuilder;" } : Jvm.MethodName) prog_26_method_31_code (2 : Nat) (Option.some (Jvm.ClassFile.FieldType.object "java/lang/AbstractStringBuilder"))) ∈ lw_all := lw_g (lw_at lw_m5 102 rfl) rfl
theorem q1155 : (Jvm.Cond.methodLink "java/lang/AbstractStringBuilder" (100 : Nat) ({ cls := "java/lang/AbstractStringBuilder", name := "ensureCapacityInternal", desc := "(I)V" } : Jvm.MethodName)) ∈ lw_all := lw_g (lw_at lw_m5 103 rfl) rfl
theorem q1156 : (Jvm.Cond.privateMethod ({ cls := "java/lang/AbstractStringBuilder", name := "ensureCapacityInternal", desc := "(I)V" } : Jvm.MethodName)) ∈ lw_tbl := lw_at lw_m5 104 rfl
theorem q1157 : (Jvm.Cond.instanceMethod ({ cls := "java/lang/AbstractStringBuilder", name := "ensureCapacityInternal", desc := "(I)V" } : Jvm.MethodName)) ∈ lw_all := lw_g (lw_at lw_m5 105 rfl) rfl
theorem q1158 : (Jvm.Cond.code ({ cls := "java/lang/AbstractStringBuilder", name := "ensureCapacityInternal", desc := "(I)V" } : Jvm.MethodName) prog_26_method_9_code (3 : Nat) (Option.none : Option Jvm.ClassFile.FieldType)) ∈ lw_all := lw_g (lw_at lw_m5 106 rfl) rfl
theorem q1159 : (Jvm.Cond.methodLink "java/lang/AbstractStringBuilder" (104 : Nat) ({ cls := "java/lang/AbstractStringBuilder", name := "newCapacity", desc := "(I)I" } : Jvm.MethodName)) ∈ lw_all := lw_g (lw_at lw_m5 107 rfl) rfl
theorem q1160 : (Jvm.Cond.privateMethod ({ cls := "java/lang/AbstractStringBuilder", name := "newCapacity", desc := "(I)I" } : Jvm.MethodName)) ∈ lw_tbl := lw_at lw_m5 108 rfl
theorem q1161 : (Jvm.Cond.instanceMethod ({ cls := "java/lang/AbstractStringBuilder", name := "newCapacity", desc := "(I)I" } : Jvm.MethodName)) ∈ lw_all := lw_g (lw_at lw_m5 109 rfl) rfl
theorem q1162 : (Jvm.Cond.code ({ cls := "java/lang/AbstractStringBuilder", name := "newCapacity", desc := "(I)I" } : Jvm.MethodName) prog_26_method_10_code (6 : Nat) (Option.some Jvm.ClassFile.FieldType.int)) ∈ lw_all := lw_g (lw_at lw_m5 110 rfl) rfl
theorem q1163 : (Jvm.Cond.methodLink "java/lang/AbstractStringBuilder" (114 : Nat) ({ cls := "jdk/internal/util/ArraysSupport", name := "newLength", desc := "(III)I" } : Jvm.MethodName)) ∈ lw_all := lw_g (lw_at lw_m5 111 rfl) rfl
theorem q1164 : (Jvm.Cond.constant "java/lang/AbstractStringBuilder" (39 : Nat) (2147483647 : Int32)) ∈ lw_all := lw_g (lw_at lw_m5 112 rfl) rfl
theorem q1165 : (Jvm.Cond.methodLink "java/lang/AbstractStringBuilder" (108 : Nat) ({ cls := "java/util/Arrays", name := "copyOf", desc := "([BI)[B" } : Jvm.MethodName)) ∈ lw_all := lw_g (lw_at lw_m5 113 rfl) rfl
theorem q1175 : (Jvm.Cond.methodLink "java/lang/AbstractStringBuilder" (191 : Nat) ({ cls := "java/lang/StringLatin1", name := "canEncode", desc := "(C)Z" } : Jvm.MethodName)) ∈ lw_all := lw_g (lw_at lw_m5 123 rfl) rfl
theorem q1178 : (Jvm.Cond.methodLink "java/lang/AbstractStringBuilder" (195 : Nat) ({ cls := "java/lang/AbstractStringBuilder", name := "inflate", desc := "()V" } : Jvm.MethodName)) ∈ lw_all := lw_g (lw_at lw_m5 126 rfl) rfl
theorem q1179 : (Jvm.Cond.privateMethod ({ cls := "java/lang/AbstractStringBuilder", name := "inflate", desc := "()V" } : Jvm.MethodName)) ∈ lw_tbl := lw_at lw_m5 127 rfl
theorem q1180 : (Jvm.Cond.instanceMethod ({ cls := "java/lang/AbstractStringBuilder", name := "inflate", desc := "()V" } : Jvm.MethodName)) ∈ lw_all := lw_g (lw_at lw_m5 128 rfl) rfl
theorem q1181 : (Jvm.Cond.code ({ cls := "java/lang/AbstractStringBuilder", name := "inflate", desc := "()V" } : Jvm.MethodName) prog_26_method_11_code (2 : Nat) (Option.none : Option Jvm.ClassFile.FieldType)) ∈ lw_all := lw_g (lw_at lw_m5 129 rfl) rfl
theorem q1182 : (Jvm.Cond.methodLink "java/lang/AbstractStringBuilder" (125 : Nat) ({ cls := "java/lang/StringLatin1", name := "inflate", desc := "([BI[BII)V" } : Jvm.MethodName)) ∈ lw_all := lw_g (lw_at lw_m5 130 rfl) rfl
theorem q1200 : (Jvm.Cond.methodLink "java/lang/AbstractStringBuilder" (197 : Nat) ({ cls := "java/lang/StringUTF16", name := "putCharSB", desc := "([BII)V" } : Jvm.MethodName)) ∈ lw_all := lw_g (lw_at lw_m5 148 rfl) rfl
theorem q1226 : (Jvm.Cond.instanceMethod ({ cls := "java/lang/AbstractStringBuilder", name := "getValue", desc := "()[B" } : Jvm.MethodName)) ∈ lw_all := lw_g (lw_at lw_m5 174 rfl) rfl
theorem q1227 : (Jvm.Cond.sameMethod "java/lang/AbstractStringBuilder" "java/lang/AbstractStringBuilder" "getValue" "()[B") ∈ lw_all := lw_g (lw_at lw_m5 175 rfl) rfl
theorem q1229 : (Jvm.Cond.code ({ cls := "java/lang/AbstractStringBuilder", name := "getValue", desc := "()[B" } : Jvm.MethodName) prog_26_method_64_code (1 : Nat) (Option.some (Jvm.ClassFile.FieldType.array Jvm.ClassFile.FieldType.byte))) ∈ lw_all := lw_g (lw_at lw_m5 177 rfl) rfl
theorem q1231 : (Jvm.Cond.instanceMethod ({ cls := "java/lang/AbstractStringBuilder", name := "length", desc := "()I" } : Jvm.MethodName)) ∈ lw_all := lw_g (lw_at lw_m5 179 rfl) rfl
theorem q1232 : (Jvm.Cond.sameMethod "java/lang/AbstractStringBuilder" "java/lang/AbstractStringBuilder" "length" "()I") ∈ lw_all := lw_g (lw_at lw_m5 180 rfl) rfl
theorem q1237 : (Jvm.Cond.code ({ cls := "java/lang/AbstractStringBuilder", name := "length", desc := "()I" } : Jvm.MethodName) prog_26_method_6_code (1 : Nat) (Option.some Jvm.ClassFile.FieldType.int)) ∈ lw_all := lw_g (lw_at lw_m5 185 rfl) rfl
theorem q1358 : (Jvm.Cond.instanceMethod ({ cls := "java/lang/AbstractStringBuilder", name := "append", desc := "(Ljava/lang/String;)Ljava/lang/AbstractStringBuilder;" } : Jvm.MethodName)) ∈ lw_all := lw_g (lw_at lw_m6 66 rfl) rfl
theorem q1359 : (Jvm.Cond.code ({ cls := "java/lang/AbstractStringBuilder", name := "append", desc := "(Ljava/lang/String;)Ljava/lang/AbstractStringBuilder;" } : Jvm.MethodName) prog_26_method_22_code (3 : Nat) (Option.some (Jvm.ClassFile.FieldType.object "java/lang/AbstractStringBuilder"))) ∈ lw_all := lw_g (lw_at lw_m6 67 rfl) rfl
theorem q1360 : (Jvm.Cond.methodLink "java/lang/AbstractStringBuilder" (204 : Nat) ({ cls := "java/lang/AbstractStringBuilder", name := "appendNull", desc := "()Ljava/lang/AbstractStringBuilder;" } : Jvm.MethodName)) ∈ lw_all := lw_g (lw_at lw_m6 68 rfl) rfl
theorem q1361 : (Jvm.Cond.privateMethod ({ cls := "java/lang/AbstractStringBuilder", name := "appendNull", desc := "()Ljava/lang/AbstractStringBuilder;" } : Jvm.MethodName)) ∈ lw_tbl := lw_at lw_m6 69 rfl
theorem q1362 : (Jvm.Cond.instanceMethod ({ cls := "java/lang/AbstractStringBuilder", name := "appendNull", desc := "()Ljava/lang/AbstractStringBuilder;" } : Jvm.MethodName)) ∈ lw_all := lw_g (lw_at lw_m6 70 rfl) rfl
theorem q1363 : (Jvm.Cond.code ({ cls := "java/lang/AbstractStringBuilder", name := "appendNull", desc := "()Ljava/lang/AbstractStringBuilder;" } : Jvm.MethodName) prog_26_method_26_code (3 : Nat) (Option.some (Jvm.ClassFile.FieldType.object "java/lang/AbstractStringBuilder"))) ∈ lw_all := lw_g (lw_at lw_m6 71 rfl) rfl
theorem q1364 : (Jvm.Cond.methodLink "java/lang/AbstractStringBuilder" (226 : Nat) ({ cls := "java/lang/StringUTF16", name := "putCharsAt", desc := "([BICCCC)I" } : Jvm.MethodName)) ∈ lw_all := lw_g (lw_at lw_m6 72 rfl) rfl
theorem q1367 : (Jvm.Cond.methodLink "java/lang/AbstractStringBuilder" (32 : Nat) ({ cls := "java/lang/String", name := "length", desc := "()I" } : Jvm.MethodName)) ∈ lw_all := lw_g (lw_at lw_m6 75 rfl) rfl
theorem q1368 : (Jvm.Cond.methodLink "java/lang/AbstractStringBuilder" (208 : Nat) ({ cls := "java/lang/AbstractStringBuilder", name := "putStringAt", desc := "(ILjava/lang/String;)V" } : Jvm.MethodName)) ∈ lw_all := lw_g (lw_at lw_m6 76 rfl) rfl
theorem q1369 : (Jvm.Cond.privateMethod ({ cls := "java/lang/AbstractStringBuilder", name := "putStringAt", desc := "(ILjava/lang/String;)V" } : Jvm.MethodName)) ∈ lw_tbl := lw_at lw_m6 77 rfl
theorem q1370 : (Jvm.Cond.instanceMethod ({ cls := "java/lang/AbstractStringBuilder", name := "putStringAt", desc := "(ILjava/lang/String;)V" } : Jvm.MethodName)) ∈ lw_all := lw_g (lw_at lw_m6 78 rfl) rfl
theorem q1371 : (Jvm.Cond.code ({ cls := "java/lang/AbstractStringBuilder", name := "putStringAt", desc := "(ILjava/lang/String;)V" } : Jvm.MethodName) prog_26_method_73_code (3 : Nat) (Option.none : Option Jvm.ClassFile.FieldType)) ∈ lw_all := lw_g (lw_at lw_m6 79 rfl) rfl
theorem q1372 : (Jvm.Cond.methodLink "java/lang/AbstractStringBuilder" (397 : Nat) ({ cls := "java/lang/AbstractStringBuilder", name := "inflateIfNeededFor", desc := "(Ljava/lang/String;)V" } : Jvm.MethodName)) ∈ lw_all := lw_g (lw_at lw_m6 80 rfl) rfl
theorem q1373 : (Jvm.Cond.privateMethod ({ cls := "java/lang/AbstractStringBuilder", name := "inflateIfNeededFor", desc := "(Ljava/lang/String;)V" } : Jvm.MethodName)) ∈ lw_tbl := lw_at lw_m6 81 rfl
theorem q1374 : (Jvm.Cond.instanceMethod ({ cls := "java/lang/AbstractStringBuilder", name := "inflateIfNeededFor", desc := "(Ljava/lang/String;)V" } : Jvm.MethodName)) ∈ lw_all := lw_g (lw_at lw_m6 82 rfl) rfl
theorem q1375 : (Jvm.Cond.code ({ cls := "java/lang/AbstractStringBuilder", name := "inflateIfNeededFor", desc := "(Ljava/lang/String;)V" } : Jvm.MethodName) prog_26_method_71_code (2 : Nat) (Option.none : Option Jvm.ClassFile.FieldType)) ∈ lw_all := lw_g (lw_at lw_m6 83 rfl) rfl
theorem q1376 : (Jvm.Cond.methodLink "java/lang/AbstractStringBuilder" (40 : Nat) ({ cls := "java/lang/String", name := "coder", desc := "()B" } : Jvm.MethodName)) ∈ lw_all := lw_g (lw_at lw_m6 84 rfl) rfl
theorem q1377 : (Jvm.Cond.methodLink "java/lang/AbstractStringBuilder" (399 : Nat) ({ cls := "java/lang/String", name := "getBytes", desc := "([BIB)V" } : Jvm.MethodName)) ∈ lw_all := lw_g (lw_at lw_m6 85 rfl) rfl
theorem q2914 : (Jvm.Cond.sameMethod "java/lang/AbstractStringBuilder" "java/lang/AbstractStringBuilder" "compareTo" "(Ljava/lang/AbstractStringBuilder;)I") ∈ lw_all := lw_g (lw_at lw_m12 182 rfl) rfl
theorem q2915 : (Jvm.Cond.sameMethod "java/lang/AbstractStringBuilder" "java/lang/AbstractStringBuilder" "append" "(C)Ljava/lang/AbstractStringBuilder;") ∈ lw_all := lw_g (lw_at lw_m12 183 rfl) rfl
theorem q2916 : (Jvm.Cond.sameMethod "java/lang/AbstractStringBuilder" "java/lang/AbstractStringBuilder" "ensureCapacityInternal" "(I)V") ∈ lw_all := lw_g (lw_at lw_m12 184 rfl) rfl
theorem q2917 : (Jvm.Cond.sameMethod "java/lang/AbstractStringBuilder" "java/lang/AbstractStringBuilder" "newCapacity" "(I)I") ∈ lw_all := lw_g (lw_at lw_m12 185 rfl) rfl
theorem q2918 : (Jvm.Cond.sameMethod "java/lang/AbstractStringBuilder" "java/lang/AbstractStringBuilder" "inflate" "()V") ∈ lw_all := lw_g (lw_at lw_m12 186 rfl) rfl
theorem q2920 : (Jvm.Cond.sameMethod "java/lang/AbstractStringBuilder" "java/lang/AbstractStringBuilder" "append" "(Ljava/lang/String;)Ljava/lang/AbstractStringBuilder;") ∈ lw_all := lw_g (lw_at lw_m12 188 rfl) rfl
theorem q2921 : (Jvm.Cond.sameMethod "java/lang/AbstractStringBuilder" "java/lang/AbstractStringBuilder" "appendNull" "()Ljava/lang/AbstractStringBuilder;") ∈ lw_all := lw_g (lw_at lw_m12 189 rfl) rfl
theorem q2922 : (Jvm.Cond.sameMethod "java/lang/AbstractStringBuilder" "java/lang/AbstractStringBuilder" "putStringAt" "(ILjava/lang/String;)V") ∈ lw_all := lw_g (lw_at lw_m12 190 rfl) rfl
theorem q2923 : (Jvm.Cond.sameMethod "java/lang/AbstractStringBuilder" "java/lang/AbstractStringBuilder" "inflateIfNeededFor" "(Ljava/lang/String;)V") ∈ lw_all := lw_g (lw_at lw_m12 191 rfl) rfl

/-! java/lang/StringBuilder -/
set_option maxRecDepth 100000
def RJ23 : String := "java/lang/StringBuilder"
def TJ23 : u_T := fun k => match k with
  | 0 => ("java/lang/AbstractStringBuilder", "value", "[B", false)
  | 1 => ("java/lang/AbstractStringBuilder", "coder", "B", false)
  | 2 => ("java/lang/AbstractStringBuilder", "maybeLatin1", "Z", false)
  | _ => ("java/lang/AbstractStringBuilder", "count", "I", false)
def tyJ23 : Nat → FieldType := fun k => match k with
  | 0 => .array .byte
  | 1 => .byte
  | 2 => .boolean
  | _ => .int
abbrev wsJ230 : List Cond := u_ws RJ23 TJ23 4
theorem nmJ23 : ∀ a, a < 4 → ∀ b, b < 4 → a ≠ b → (TJ23 a).2.1 ≠ (TJ23 b).2.1 := by decide +kernel
theorem tyJ23_ok : ∀ k, k < 4 → parseFieldDescriptor (TJ23 k).2.2.1 = some (tyJ23 k) := by decide +kernel
abbrev cJ23_init : ByteArray := prog_42_method_2_code
def yJ23_init : MethodName := ⟨RJ23, "<init>", "(I)V"⟩
def dkwJ23_init_0 : List UInt8 := [42, 27, 183, 0, 1, 177]
abbrev dktJ23_init_0 : List UInt8 := dkwJ23_init_0 ++ []
theorem dksJ23_init_0 : cJ23_init.data.toList.drop 0 = dktJ23_init_0 := by decide +kernel
theorem dJ23_init_0 : decode cJ23_init 0 = .ok (.aload_n 0, 1) := dk_42 (dk_at dksJ23_init_0 0 rfl rfl)
theorem dJ23_init_1 : decode cJ23_init 1 = .ok (.iload_n 1, 1) := dk_27 (dk_at dksJ23_init_0 1 rfl rfl)
theorem dJ23_init_2 : decode cJ23_init 2 = .ok (.invokespecial 1, 3) := dk_183 0 1 (dk_at dksJ23_init_0 2 rfl rfl)
theorem dJ23_init_5 : decode cJ23_init 5 = .ok (.return_, 1) := dk_177 (dk_at dksJ23_init_0 5 rfl rfl)
abbrev cJ23_append : ByteArray := prog_42_method_14_code
def yJ23_append : MethodName := ⟨RJ23, "append", "(C)Ljava/lang/StringBuilder;"⟩
def dkwJ23_append_0 : List UInt8 := [42, 27, 183, 0, 50, 87, 42, 176]
abbrev dktJ23_append_0 : List UInt8 := dkwJ23_append_0 ++ []
theorem dksJ23_append_0 : cJ23_append.data.toList.drop 0 = dktJ23_append_0 := by decide +kernel
theorem dJ23_append_0 : decode cJ23_append 0 = .ok (.aload_n 0, 1) := dk_42 (dk_at dksJ23_append_0 0 rfl rfl)
theorem dJ23_append_1 : decode cJ23_append 1 = .ok (.iload_n 1, 1) := dk_27 (dk_at dksJ23_append_0 1 rfl rfl)
theorem dJ23_append_2 : decode cJ23_append 2 = .ok (.invokespecial 50, 3) := dk_183 0 50 (dk_at dksJ23_append_0 2 rfl rfl)
theorem dJ23_append_5 : decode cJ23_append 5 = .ok (.pop, 1) := dk_87 (dk_at dksJ23_append_0 5 rfl rfl)
theorem dJ23_append_6 : decode cJ23_append 6 = .ok (.aload_n 0, 1) := dk_42 (dk_at dksJ23_append_0 6 rfl rfl)
theorem dJ23_append_7 : decode cJ23_append 7 = .ok (.areturn, 1) := dk_176 (dk_at dksJ23_append_0 7 rfl rfl)
abbrev cJ23_toString : ByteArray := prog_42_method_42_code
def yJ23_toString : MethodName := ⟨RJ23, "toString", "()Ljava/lang/String;"⟩
def dkwJ23_toString_0 : List UInt8 := [187, 0, 18, 89, 42, 183, 0, 137, 176]
abbrev dktJ23_toString_0 : List UInt8 := dkwJ23_toString_0 ++ []
theorem dksJ23_toString_0 : cJ23_toString.data.toList.drop 0 = dktJ23_toString_0 := by decide +kernel
theorem dJ23_toString_0 : decode cJ23_toString 0 = .ok (.new 18, 3) := dk_187 0 18 (dk_at dksJ23_toString_0 0 rfl rfl)
theorem dJ23_toString_3 : decode cJ23_toString 3 = .ok (.dup, 1) := dk_89 (dk_at dksJ23_toString_0 3 rfl rfl)
theorem dJ23_toString_4 : decode cJ23_toString 4 = .ok (.aload_n 0, 1) := dk_42 (dk_at dksJ23_toString_0 4 rfl rfl)
theorem dJ23_toString_5 : decode cJ23_toString 5 = .ok (.invokespecial 137, 3) := dk_183 0 137 (dk_at dksJ23_toString_0 5 rfl rfl)
theorem dJ23_toString_8 : decode cJ23_toString 8 = .ok (.areturn, 1) := dk_176 (dk_at dksJ23_toString_0 8 rfl rfl)
abbrev cJ23_length : ByteArray := prog_42_method_93_code
def yJ23_length : MethodName := ⟨RJ23, "length", "()I"⟩
theorem dJ23_length_0 : decode cJ23_length 0 = .ok (.aload_n 0, 1) := by decide +kernel
theorem dJ23_length_1 : decode cJ23_length 1 = .ok (.invokespecial 343, 3) := by decide +kernel
theorem dJ23_length_4 : decode cJ23_length 4 = .ok (.ireturn, 1) := by decide +kernel
abbrev cJ23_init_2 : ByteArray := prog_42_method_1_code
def yJ23_init_2 : MethodName := ⟨RJ23, "<init>", "()V"⟩
def dkwJ23_init_2_0 : List UInt8 := [42, 16, 16, 183, 0, 1, 177]
abbrev dktJ23_init_2_0 : List UInt8 := dkwJ23_init_2_0 ++ []
theorem dksJ23_init_2_0 : cJ23_init_2.data.toList.drop 0 = dktJ23_init_2_0 := by decide +kernel
theorem dJ23_init_2_0 : decode cJ23_init_2 0 = .ok (.aload_n 0, 1) := dk_42 (dk_at dksJ23_init_2_0 0 rfl rfl)
theorem dJ23_init_2_1 : decode cJ23_init_2 1 = .ok (.bipush 16, 2) := dk_16 16 (dk_at dksJ23_init_2_0 1 rfl rfl)
theorem dJ23_init_2_3 : decode cJ23_init_2 3 = .ok (.invokespecial 1, 3) := dk_183 0 1 (dk_at dksJ23_init_2_0 3 rfl rfl)
theorem dJ23_init_2_6 : decode cJ23_init_2 6 = .ok (.return_, 1) := dk_177 (dk_at dksJ23_init_2_0 6 rfl rfl)
abbrev cJ23_append_2 : ByteArray := prog_42_method_7_code
def yJ23_append_2 : MethodName := ⟨RJ23, "append", "(Ljava/lang/String;)Ljava/lang/StringBuilder;"⟩
def dkwJ23_append_2_0 : List UInt8 := [42, 43, 183, 0, 29, 87, 42, 176]
abbrev dktJ23_append_2_0 : List UInt8 := dkwJ23_append_2_0 ++ []
theorem dksJ23_append_2_0 : cJ23_append_2.data.toList.drop 0 = dktJ23_append_2_0 := by decide +kernel
theorem dJ23_append_2_0 : decode cJ23_append_2 0 = .ok (.aload_n 0, 1) := dk_42 (dk_at dksJ23_append_2_0 0 rfl rfl)
theorem dJ23_append_2_1 : decode cJ23_append_2 1 = .ok (.aload_n 1, 1) := dk_43 (dk_at dksJ23_append_2_0 1 rfl rfl)
theorem dJ23_append_2_2 : decode cJ23_append_2 2 = .ok (.invokespecial 29, 3) := dk_183 0 29 (dk_at dksJ23_append_2_0 2 rfl rfl)
theorem dJ23_append_2_5 : decode cJ23_append_2 5 = .ok (.pop, 1) := dk_87 (dk_at dksJ23_append_2_0 5 rfl rfl)
theorem dJ23_append_2_6 : decode cJ23_append_2 6 = .ok (.aload_n 0, 1) := dk_42 (dk_at dksJ23_append_2_0 6 rfl rfl)
theorem dJ23_append_2_7 : decode cJ23_append_2 7 = .ok (.areturn, 1) := dk_176 (dk_at dksJ23_append_2_0 7 rfl rfl)
theorem q125 : (Jvm.Cond.initialized "java/lang/StringBuilder") ∈ lw_all := lw_g (lw_at lw_m1 33 rfl) rfl
theorem q444 : (Jvm.Cond.selects "java/lang/StringBuilder" ({ cls := "java/lang/Object", name := "getClass", desc := "()Ljava/lang/Class;" } : Jvm.MethodName) ({ cls := "java/lang/Object", name := "getClass", desc := "()Ljava/lang/Class;" } : Jvm.MethodName)) ∈ lw_all := lw_g (lw_at lw_m2 112 rfl) rfl
theorem q573 : (Jvm.Cond.selects "java/lang/StringBuilder" ({ cls := "java/lang/Object", name := "hashCode", desc := "()I" } : Jvm.MethodName) ({ cls := "java/lang/Object", name := "hashCode", desc := "()I" } : Jvm.MethodName)) ∈ lw_all := lw_g (lw_at lw_m3 1 rfl) rfl
theorem q616 : (Jvm.Cond.selects "java/lang/StringBuilder" ({ cls := "java/lang/Object", name := "equals", desc := "(Ljava/lang/Object;)Z" } : Jvm.MethodName) ({ cls := "java/lang/Object", name := "equals", desc := "(Ljava/lang/Object;)Z" } : Jvm.MethodName)) ∈ lw_all := lw_g (lw_at lw_m3 44 rfl) rfl
theorem q810 : (Jvm.Cond.castable "java/lang/StringBuilder" "java/lang/Comparable") ∈ lw_tbl := lw_at lw_m3 238 rfl
theorem q811 : (Jvm.Cond.selects "java/lang/StringBuilder" ({ cls := "java/lang/Comparable", name := "compareTo", desc := "(Ljava/lang/Object;)I" } : Jvm.MethodName) ({ cls := "java/lang/StringBuilder", name := "compareTo", desc := "(Ljava/lang/Object;)I" } : Jvm.MethodName)) ∈ lw_all := lw_g (lw_at lw_m3 239 rfl) rfl
theorem q812 : (Jvm.Cond.unhidden "java/lang/StringBuilder" "compareTo" "(Ljava/lang/Object;)I") ∈ lw_tbl := lw_at lw_m4 0 rfl
theorem q813 : (Jvm.Cond.instanceMethod ({ cls := "java/lang/StringBuilder", name := "compareTo", desc := "(Ljava/lang/Object;)I" } : Jvm.MethodName)) ∈ lw_all := lw_g (lw_at lw_m4 1 rfl) rfl
theorem q814 : (Jvm.Cond.publicMethod ({ cls := "java/lang/StringBuilder", name := "compareTo", desc := "(Ljava/lang/Object;)I" } : Jvm.MethodName)) ∈ lw_tbl := lw_at lw_m4 2 rfl
theorem q815 : (Jvm.Cond.code ({ cls := "java/lang/StringBuilder", name := "compareTo", desc := "(Ljava/lang/Object;)I" } : Jvm.MethodName) prog_42_method_97_code (2 : Nat) (Option.some Jvm.ClassFile.FieldType.int)) ∈ lw_all := lw_g (lw_at lw_m4 3 rfl) rfl
theorem q816 : (Jvm.Cond.classLink "java/lang/StringBuilder" (24 : Nat) "java/lang/StringBuilder") ∈ lw_all := lw_g (lw_at lw_m4 4 rfl) rfl
theorem q817 : (Jvm.Cond.methodLink "java/lang/StringBuilder" (346 : Nat) ({ cls := "java/lang/StringBuilder", name := "compareTo", desc := "(Ljava/lang/StringBuilder;)I" } : Jvm.MethodName)) ∈ lw_all := lw_g (lw_at lw_m4 5 rfl) rfl
theorem q818 : (Jvm.Cond.instanceMethod ({ cls := "java/lang/StringBuilder", name := "compareTo", desc := "(Ljava/lang/StringBuilder;)I" } : Jvm.MethodName)) ∈ lw_all := lw_g (lw_at lw_m4 6 rfl) rfl
theorem q819 : (Jvm.Cond.selects "java/lang/StringBuilder" ({ cls := "java/lang/StringBuilder", name := "compareTo", desc := "(Ljava/lang/StringBuilder;)I" } : Jvm.MethodName) ({ cls := "java/lang/StringBuilder", name := "compareTo", desc := "(Ljava/lang/StringBuilder;)I" } : Jvm.MethodName)) ∈ lw_all := lw_g (lw_at lw_m4 7 rfl) rfl
theorem q820 : (Jvm.Cond.code ({ cls := "java/lang/StringBuilder", name := "compareTo", desc := "(Ljava/lang/StringBuilder;)I" } : Jvm.MethodName) prog_42_method_5_code (2 : Nat) (Option.some Jvm.ClassFile.FieldType.int)) ∈ lw_all := lw_g (lw_at lw_m4 8 rfl) rfl
theorem q821 : (Jvm.Cond.methodLink "java/lang/StringBuilder" (13 : Nat) ({ cls := "java/lang/AbstractStringBuilder", name := "compareTo", desc := "(Ljava/lang/AbstractStringBuilder;)I" } : Jvm.MethodName)) ∈ lw_all := lw_g (lw_at lw_m4 9 rfl) rfl
theorem q822 : (Jvm.Cond.superclass "java/lang/StringBuilder" "java/lang/AbstractStringBuilder") ∈ lw_all := lw_g (lw_at lw_m4 10 rfl) rfl
theorem q828 : (Jvm.Cond.selects "java/lang/StringBuilder" ({ cls := "java/lang/AbstractStringBuilder", name := "isLatin1", desc := "()Z" } : Jvm.MethodName) ({ cls := "java/lang/AbstractStringBuilder", name := "isLatin1", desc := "()Z" } : Jvm.MethodName)) ∈ lw_all := lw_g (lw_at lw_m4 16 rfl) rfl
theorem q1121 : (Jvm.Cond.instantiable "java/lang/StringBuilder" (4 : Nat)) ∈ lw_all := lw_g (lw_at lw_m5 69 rfl) rfl
theorem q1123 : (Jvm.Cond.instanceMethod ({ cls := "java/lang/StringBuilder", name := "<init>", desc := "(I)V" } : Jvm.MethodName)) ∈ lw_all := lw_g (lw_at lw_m5 71 rfl) rfl
theorem q1124 : (Jvm.Cond.code ({ cls := "java/lang/StringBuilder", name := "<init>", desc := "(I)V" } : Jvm.MethodName) prog_42_method_2_code (2 : Nat) (Option.none : Option Jvm.ClassFile.FieldType)) ∈ lw_all := lw_g (lw_at lw_m5 72 rfl) rfl
theorem q1125 : (Jvm.Cond.methodLink "java/lang/StringBuilder" (1 : Nat) ({ cls := "java/lang/AbstractStringBuilder", name := "<init>", desc := "(I)V" } : Jvm.MethodName)) ∈ lw_all := lw_g (lw_at lw_m5 73 rfl) rfl
theorem q1140 : (Jvm.Cond.lays "java/lang/StringBuilder" "java/lang/AbstractStringBuilder" "value" "[B") ∈ lw_all := lw_g (lw_at lw_m5 88 rfl) rfl
theorem q1142 : (Jvm.Cond.lays "java/lang/StringBuilder" "java/lang/AbstractStringBuilder" "coder" "B") ∈ lw_all := lw_g (lw_at lw_m5 90 rfl) rfl
theorem q1144 : (Jvm.Cond.lays "java/lang/StringBuilder" "java/lang/AbstractStringBuilder" "maybeLatin1" "Z") ∈ lw_all := lw_g (lw_at lw_m5 92 rfl) rfl
theorem q1146 : (Jvm.Cond.lays "java/lang/StringBuilder" "java/lang/AbstractStringBuilder" "count" "I") ∈ lw_all := lw_g (lw_at lw_m5 94 rfl) rfl
theorem q1149 : (Jvm.Cond.instanceMethod ({ cls := "java/lang/StringBuilder", name := "append", desc := "(C)Ljava/lang/StringBuilder;" } : Jvm.MethodName)) ∈ lw_all := lw_g (lw_at lw_m5 97 rfl) rfl
theorem q1150 : (Jvm.Cond.selects "java/lang/StringBuilder" ({ cls := "java/lang/StringBuilder", name := "append", desc := "(C)Ljava/lang/StringBuilder;" } : Jvm.MethodName) ({ cls := "java/lang/StringBuilder", name := "append", desc := "(C)Ljava/lang/StringBuilder;" } : Jvm.MethodName)) ∈ lw_all := lw_g (lw_at lw_m5 98 rfl) rfl
theorem q1151 : (Jvm.Cond.code ({ cls := "java/lang/StringBuilder", name := "append", desc := "(C)Ljava/lang/StringBuilder;" } : Jvm.MethodName) prog_42_method_14_code (2 : Nat) (Option.some (Jvm.ClassFile.FieldType.object "java/lang/StringBuilder"))) ∈ lw_all := lw_g (lw_at lw_m5 99 rfl) rfl
theorem q1152 : (Jvm.Cond.methodLink "java/lang/StringBuilder" (50 : Nat) ({ cls := "java/lang/AbstractStringBuilder", name := "append", desc := "(C)Ljava/lang/AbstractStringBuilder;" } : Jvm.MethodName)) ∈ lw_all := lw_g (lw_at lw_m5 100 rfl) rfl
theorem q1213 : (Jvm.Cond.instanceMethod ({ cls := "java/lang/StringBuilder", name := "toString", desc := "()Ljava/lang/String;" } : Jvm.MethodName)) ∈ lw_all := lw_g (lw_at lw_m5 161 rfl) rfl
theorem q1214 : (Jvm.Cond.selects "java/lang/StringBuilder" ({ cls := "java/lang/StringBuilder", name := "toString", desc := "()Ljava/lang/String;" } : Jvm.MethodName) ({ cls := "java/lang/StringBuilder", name := "toString", desc := "()Ljava/lang/String;" } : Jvm.MethodName)) ∈ lw_all := lw_g (lw_at lw_m5 162 rfl) rfl
theorem q1215 : (Jvm.Cond.code ({ cls := "java/lang/StringBuilder", name := "toString", desc := "()Ljava/lang/String;" } : Jvm.MethodName) prog_42_method_42_code (1 : Nat) (Option.some (Jvm.ClassFile.FieldType.object "java/lang/String"))) ∈ lw_all := lw_g (lw_at lw_m5 163 rfl) rfl
theorem q1216 : (Jvm.Cond.classLink "java/lang/StringBuilder" (18 : Nat) "java/lang/String") ∈ lw_all := lw_g (lw_at lw_m5 164 rfl) rfl
theorem q1218 : (Jvm.Cond.methodLink "java/lang/StringBuilder" (137 : Nat) ({ cls := "java/lang/String", name := "<init>", desc := "(Ljava/lang/StringBuilder;)V" } : Jvm.MethodName)) ∈ lw_all := lw_g (lw_at lw_m5 166 rfl) rfl
theorem q1228 : (Jvm.Cond.selects "java/lang/StringBuilder" ({ cls := "java/lang/AbstractStringBuilder", name := "getValue", desc := "()[B" } : Jvm.MethodName) ({ cls := "java/lang/AbstractStringBuilder", name := "getValue", desc := "()[B" } : Jvm.MethodName)) ∈ lw_all := lw_g (lw_at lw_m5 176 rfl) rfl
theorem q1233 : (Jvm.Cond.selects "java/lang/StringBuilder" ({ cls := "java/lang/AbstractStringBuilder", name := "length", desc := "()I" } : Jvm.MethodName) ({ cls := "java/lang/StringBuilder", name := "length", desc := "()I" } : Jvm.MethodName)) ∈ lw_all := lw_g (lw_at lw_m5 181 rfl) rfl
theorem q1234 : (Jvm.Cond.instanceMethod ({ cls := "java/lang/StringBuilder", name := "length", desc := "()I" } : Jvm.MethodName)) ∈ lw_all := lw_g (lw_at lw_m5 182 rfl) rfl
theorem q1235 : (Jvm.Cond.code ({ cls := "java/lang/StringBuilder", name := "length", desc := "()I" } : Jvm.MethodName) prog_42_method_93_code (1 : Nat) (Option.some Jvm.ClassFile.FieldType.int)) ∈ lw_all := lw_g (lw_at lw_m5 183 rfl) rfl
theorem q1236 : (Jvm.Cond.methodLink "java/lang/StringBuilder" (343 : Nat) ({ cls := "java/lang/AbstractStringBuilder", name := "length", desc := "()I" } : Jvm.MethodName)) ∈ lw_all := lw_g (lw_at lw_m5 184 rfl) rfl
theorem q1350 : (Jvm.Cond.instanceMethod ({ cls := "java/lang/StringBuilder", name := "<init>", desc := "()V" } : Jvm.MethodName)) ∈ lw_all := lw_g (lw_at lw_m6 58 rfl) rfl
theorem q1351 : (Jvm.Cond.code ({ cls := "java/lang/StringBuilder", name := "<init>", desc := "()V" } : Jvm.MethodName) prog_42_method_1_code (1 : Nat) (Option.none : Option Jvm.ClassFile.FieldType)) ∈ lw_all := lw_g (lw_at lw_m6 59 rfl) rfl
theorem q1354 : (Jvm.Cond.instanceMethod ({ cls := "java/lang/StringBuilder", name := "append", desc := "(Ljava/lang/String;)Ljava/lang/StringBuilder;" } : Jvm.MethodName)) ∈ lw_all := lw_g (lw_at lw_m6 62 rfl) rfl
theorem q1355 : (Jvm.Cond.selects "java/lang/StringBuilder" ({ cls := "java/lang/StringBuilder", name := "append", desc := "(Ljava/lang/String;)Ljava/lang/StringBuilder;" } : Jvm.MethodName) ({ cls := "java/lang/StringBuilder", name := "append", desc := "(Ljava/lang/String;)Ljava/lang/StringBuilder;" } : Jvm.MethodName)) ∈ lw_all := lw_g (lw_at lw_m6 63 rfl) rfl
theorem q1356 : (Jvm.Cond.code ({ cls := "java/lang/StringBuilder", name := "append", desc := "(Ljava/lang/String;)Ljava/lang/StringBuilder;" } : Jvm.MethodName) prog_42_method_7_code (2 : Nat) (Option.some (Jvm.ClassFile.FieldType.object "java/lang/StringBuilder"))) ∈ lw_all := lw_g (lw_at lw_m6 64 rfl) rfl
theorem q1357 : (Jvm.Cond.methodLink "java/lang/StringBuilder" (29 : Nat) ({ cls := "java/lang/AbstractStringBuilder", name := "append", desc := "(Ljava/lang/String;)Ljava/lang/AbstractStringBuilder;" } : Jvm.MethodName)) ∈ lw_all := lw_g (lw_at lw_m6 65 rfl) rfl
theorem q1397 : (Jvm.Cond.castable "java/lang/StringBuilder" "java/lang/CharSequence") ∈ lw_tbl := lw_at lw_m6 105 rfl
theorem q1398 : (Jvm.Cond.selects "java/lang/StringBuilder" ({ cls := "java/lang/CharSequence", name := "toString", desc := "()Ljava/lang/String;" } : Jvm.MethodName) ({ cls := "java/lang/StringBuilder", name := "toString", desc := "()Ljava/lang/String;" } : Jvm.MethodName)) ∈ lw_all := lw_g (lw_at lw_m6 106 rfl) rfl
theorem q1399 : (Jvm.Cond.unhidden "java/lang/StringBuilder" "toString" "()Ljava/lang/String;") ∈ lw_tbl := lw_at lw_m6 107 rfl
theorem q1400 : (Jvm.Cond.publicMethod ({ cls := "java/lang/StringBuilder", name := "toString", desc := "()Ljava/lang/String;" } : Jvm.MethodName)) ∈ lw_tbl := lw_at lw_m6 108 rfl
theorem q2947 : (Jvm.Cond.castable "java/lang/StringBuilder" "java/lang/Object") ∈ lw_tbl := lw_at lw_m12 215 rfl
theorem in_J23 : ∀ w ∈ wsJ230, w ∈ lw_all := lw_in wsJ230 [1140, 1142, 1144, 1146] (by decide +kernel) (by decide +kernel)

