set_option maxRecDepth 100000
/-! ThrowRules$Mistake -/
set_option maxRecDepth 100000
def RX7 : String := "ThrowRules$Mistake"
def TX7 : u_T := fun k => match k with
  | 0 => ("ThrowRules$Mistake", "code", "I", true)
  | 1 => ("ThrowRules$Mistake", "place", "I", true)
  | _ => ("ThrowRules$Mistake", "kind", "I", true)
def tyX7 : Nat → FieldType := fun k => match k with
  | 0 => .int
  | 1 => .int
  | _ => .int
abbrev wsX70 : List Cond := u_ws RX7 TX7 3
theorem nmX7 : ∀ a, a < 3 → ∀ b, b < 3 → a ≠ b → (TX7 a).2.1 ≠ (TX7 b).2.1 := by decide +kernel
theorem tyX7_ok : ∀ k, k < 3 → parseFieldDescriptor (TX7 k).2.2.1 = some (tyX7 k) := by decide +kernel
abbrev cX7_init : ByteArray := prog_12_method_1_code
def yX7_init : MethodName := ⟨RX7, "<init>", "(III)V"⟩
def dkwX7_init_0 : List UInt8 := [42, 183, 0, 1, 42, 27, 181, 0, 7, 42, 28, 181, 0, 13, 42, 29, 181, 0, 16, 177]
abbrev dktX7_init_0 : List UInt8 := dkwX7_init_0 ++ []
theorem dksX7_init_0 : cX7_init.data.toList.drop 0 = dktX7_init_0 := by decide +kernel
theorem dX7_init_0 : decode cX7_init 0 = .ok (.aload_n 0, 1) := dk_42 (dk_at dksX7_init_0 0 rfl rfl)
theorem dX7_init_1 : decode cX7_init 1 = .ok (.invokespecial 1, 3) := dk_183 0 1 (dk_at dksX7_init_0 1 rfl rfl)
theorem dX7_init_4 : decode cX7_init 4 = .ok (.aload_n 0, 1) := dk_42 (dk_at dksX7_init_0 4 rfl rfl)
theorem dX7_init_5 : decode cX7_init 5 = .ok (.iload_n 1, 1) := dk_27 (dk_at dksX7_init_0 5 rfl rfl)
theorem dX7_init_6 : decode cX7_init 6 = .ok (.putfield 7, 3) := dk_181 0 7 (dk_at dksX7_init_0 6 rfl rfl)
theorem dX7_init_9 : decode cX7_init 9 = .ok (.aload_n 0, 1) := dk_42 (dk_at dksX7_init_0 9 rfl rfl)
theorem dX7_init_10 : decode cX7_init 10 = .ok (.iload_n 2, 1) := dk_28 (dk_at dksX7_init_0 10 rfl rfl)
theorem dX7_init_11 : decode cX7_init 11 = .ok (.putfield 13, 3) := dk_181 0 13 (dk_at dksX7_init_0 11 rfl rfl)
theorem dX7_init_14 : decode cX7_init 14 = .ok (.aload_n 0, 1) := dk_42 (dk_at dksX7_init_0 14 rfl rfl)
theorem dX7_init_15 : decode cX7_init 15 = .ok (.iload_n 3, 1) := dk_29 (dk_at dksX7_init_0 15 rfl rfl)
theorem dX7_init_16 : decode cX7_init 16 = .ok (.putfield 16, 3) := dk_181 0 16 (dk_at dksX7_init_0 16 rfl rfl)
theorem dX7_init_19 : decode cX7_init 19 = .ok (.return_, 1) := dk_177 (dk_at dksX7_init_0 19 rfl rfl)
abbrev cX7_isAhead : ByteArray := prog_12_method_2_code
def yX7_isAhead : MethodName := ⟨RX7, "isAhead", "(LThrowRules$Mistake;)Z"⟩
def dkwX7_isAhead_3 : List UInt8 := [162, 0, 7, 4, 167, 0, 4, 3, 172]
abbrev dktX7_isAhead_3 : List UInt8 := dkwX7_isAhead_3 ++ []
def dkwX7_isAhead_2 : List UInt8 := [180, 0, 7, 162, 0, 7, 4, 167, 0, 23, 3, 167, 0, 19, 42, 180, 0, 16, 43, 180, 0, 16]
abbrev dktX7_isAhead_2 : List UInt8 := dkwX7_isAhead_2 ++ dktX7_isAhead_3
def dkwX7_isAhead_1 : List UInt8 := [167, 0, 53, 3, 167, 0, 49, 42, 180, 0, 7, 43, 180, 0, 7, 159, 0, 22, 42, 180, 0, 7, 43]
abbrev dktX7_isAhead_1 : List UInt8 := dkwX7_isAhead_1 ++ dktX7_isAhead_2
def dkwX7_isAhead_0 : List UInt8 := [42, 180, 0, 13, 43, 180, 0, 13, 159, 0, 22, 42, 180, 0, 13, 43, 180, 0, 13, 162, 0, 7, 4]
abbrev dktX7_isAhead_0 : List UInt8 := dkwX7_isAhead_0 ++ dktX7_isAhead_1
theorem dksX7_isAhead_0 : cX7_isAhead.data.toList.drop 0 = dktX7_isAhead_0 := by decide +kernel
theorem dksX7_isAhead_1 : cX7_isAhead.data.toList.drop 23 = dktX7_isAhead_1 := dk_seg dksX7_isAhead_0 23 rfl rfl
theorem dksX7_isAhead_2 : cX7_isAhead.data.toList.drop 46 = dktX7_isAhead_2 := dk_seg dksX7_isAhead_1 23 rfl rfl
theorem dksX7_isAhead_3 : cX7_isAhead.data.toList.drop 68 = dktX7_isAhead_3 := dk_seg dksX7_isAhead_2 22 rfl rfl
theorem dX7_isAhead_0 : decode cX7_isAhead 0 = .ok (.aload_n 0, 1) := dk_42 (dk_at dksX7_isAhead_0 0 rfl rfl)
theorem dX7_isAhead_1 : decode cX7_isAhead 1 = .ok (.getfield 13, 3) := dk_180 0 13 (dk_at dksX7_isAhead_0 1 rfl rfl)
theorem dX7_isAhead_4 : decode cX7_isAhead 4 = .ok (.aload_n 1, 1) := dk_43 (dk_at dksX7_isAhead_0 4 rfl rfl)
theorem dX7_isAhead_5 : decode cX7_isAhead 5 = .ok (.getfield 13, 3) := dk_180 0 13 (dk_at dksX7_isAhead_0 5 rfl rfl)
theorem dX7_isAhead_8 : decode cX7_isAhead 8 = .ok (.if_icmp .eq 22, 3) := dk_159 0 22 (dk_at dksX7_isAhead_0 8 rfl rfl)
theorem dX7_isAhead_11 : decode cX7_isAhead 11 = .ok (.aload_n 0, 1) := dk_42 (dk_at dksX7_isAhead_0 11 rfl rfl)
theorem dX7_isAhead_12 : decode cX7_isAhead 12 = .ok (.getfield 13, 3) := dk_180 0 13 (dk_at dksX7_isAhead_0 12 rfl rfl)
theorem dX7_isAhead_15 : decode cX7_isAhead 15 = .ok (.aload_n 1, 1) := dk_43 (dk_at dksX7_isAhead_0 15 rfl rfl)
theorem dX7_isAhead_16 : decode cX7_isAhead 16 = .ok (.getfield 13, 3) := dk_180 0 13 (dk_at dksX7_isAhead_0 16 rfl rfl)
theorem dX7_isAhead_19 : decode cX7_isAhead 19 = .ok (.if_icmp .ge 7, 3) := dk_162 0 7 (dk_at dksX7_isAhead_0 19 rfl rfl)
theorem dX7_isAhead_22 : decode cX7_isAhead 22 = .ok (.iconst 1, 1) := dk_4 (dk_at dksX7_isAhead_0 22 rfl rfl)
theorem dX7_isAhead_23 : decode cX7_isAhead 23 = .ok (.goto 53, 3) := dk_167 0 53 (dk_at dksX7_isAhead_1 0 rfl rfl)
theorem dX7_isAhead_26 : decode cX7_isAhead 26 = .ok (.iconst 0, 1) := dk_3 (dk_at dksX7_isAhead_1 3 rfl rfl)
theorem dX7_isAhead_27 : decode cX7_isAhead 27 = .ok (.goto 49, 3) := dk_167 0 49 (dk_at dksX7_isAhead_1 4 rfl rfl)
theorem dX7_isAhead_30 : decode cX7_isAhead 30 = .ok (.aload_n 0, 1) := dk_42 (dk_at dksX7_isAhead_1 7 rfl rfl)
theorem dX7_isAhead_31 : decode cX7_isAhead 31 = .ok (.getfield 7, 3) := dk_180 0 7 (dk_at dksX7_isAhead_1 8 rfl rfl)
theorem dX7_isAhead_34 : decode cX7_isAhead 34 = .ok (.aload_n 1, 1) := dk_43 (dk_at dksX7_isAhead_1 11 rfl rfl)
theorem dX7_isAhead_35 : decode cX7_isAhead 35 = .ok (.getfield 7, 3) := dk_180 0 7 (dk_at dksX7_isAhead_1 12 rfl rfl)
theorem dX7_isAhead_38 : decode cX7_isAhead 38 = .ok (.if_icmp .eq 22, 3) := dk_159 0 22 (dk_at dksX7_isAhead_1 15 rfl rfl)
theorem dX7_isAhead_41 : decode cX7_isAhead 41 = .ok (.aload_n 0, 1) := dk_42 (dk_at dksX7_isAhead_1 18 rfl rfl)
theorem dX7_isAhead_42 : decode cX7_isAhead 42 = .ok (.getfield 7, 3) := dk_180 0 7 (dk_at dksX7_isAhead_1 19 rfl rfl)
theorem dX7_isAhead_45 : decode cX7_isAhead 45 = .ok (.aload_n 1, 1) := dk_43 (dk_at dksX7_isAhead_1 22 rfl rfl)
theorem dX7_isAhead_46 : decode cX7_isAhead 46 = .ok (.getfield 7, 3) := dk_180 0 7 (dk_at dksX7_isAhead_2 0 rfl rfl)
theorem dX7_isAhead_49 : decode cX7_isAhead 49 = .ok (.if_icmp .ge 7, 3) := dk_162 0 7 (dk_at dksX7_isAhead_2 3 rfl rfl)
theorem dX7_isAhead_52 : decode cX7_isAhead 52 = .ok (.iconst 1, 1) := dk_4 (dk_at dksX7_isAhead_2 6 rfl rfl)
theorem dX7_isAhead_53 : decode cX7_isAhead 53 = .ok (.goto 23, 3) := dk_167 0 23 (dk_at dksX7_isAhead_2 7 rfl rfl)
theorem dX7_isAhead_56 : decode cX7_isAhead 56 = .ok (.iconst 0, 1) := dk_3 (dk_at dksX7_isAhead_2 10 rfl rfl)
theorem dX7_isAhead_57 : decode cX7_isAhead 57 = .ok (.goto 19, 3) := dk_167 0 19 (dk_at dksX7_isAhead_2 11 rfl rfl)
theorem dX7_isAhead_60 : decode cX7_isAhead 60 = .ok (.aload_n 0, 1) := dk_42 (dk_at dksX7_isAhead_2 14 rfl rfl)
theorem dX7_isAhead_61 : decode cX7_isAhead 61 = .ok (.getfield 16, 3) := dk_180 0 16 (dk_at dksX7_isAhead_2 15 rfl rfl)
theorem dX7_isAhead_64 : decode cX7_isAhead 64 = .ok (.aload_n 1, 1) := dk_43 (dk_at dksX7_isAhead_2 18 rfl rfl)
theorem dX7_isAhead_65 : decode cX7_isAhead 65 = .ok (.getfield 16, 3) := dk_180 0 16 (dk_at dksX7_isAhead_2 19 rfl rfl)
theorem dX7_isAhead_68 : decode cX7_isAhead 68 = .ok (.if_icmp .ge 7, 3) := dk_162 0 7 (dk_at dksX7_isAhead_3 0 rfl rfl)
theorem dX7_isAhead_71 : decode cX7_isAhead 71 = .ok (.iconst 1, 1) := dk_4 (dk_at dksX7_isAhead_3 3 rfl rfl)
theorem dX7_isAhead_72 : decode cX7_isAhead 72 = .ok (.goto 4, 3) := dk_167 0 4 (dk_at dksX7_isAhead_3 4 rfl rfl)
theorem dX7_isAhead_75 : decode cX7_isAhead 75 = .ok (.iconst 0, 1) := dk_3 (dk_at dksX7_isAhead_3 7 rfl rfl)
theorem dX7_isAhead_76 : decode cX7_isAhead 76 = .ok (.ireturn, 1) := dk_172 (dk_at dksX7_isAhead_3 8 rfl rfl)
theorem q128 : (Jvm.Cond.initialized "ThrowRules$Mistake") ∈ lw_all := lw_g (lw_at lw_m1 36 rfl) rfl
theorem q431 : (Jvm.Cond.selects "ThrowRules$Mistake" ({ cls := "java/lang/Object", name := "getClass", desc := "()Ljava/lang/Class;" } : Jvm.MethodName) ({ cls := "java/lang/Object", name := "getClass", desc := "()Ljava/lang/Class;" } : Jvm.MethodName)) ∈ lw_all := lw_g (lw_at lw_m2 99 rfl) rfl
theorem q1446 : (Jvm.Cond.instantiable "ThrowRules$Mistake" (3 : Nat)) ∈ lw_all := lw_g (lw_at lw_m6 154 rfl) rfl
theorem q1448 : (Jvm.Cond.instanceMethod ({ cls := "ThrowRules$Mistake", name := "<init>", desc := "(III)V" } : Jvm.MethodName)) ∈ lw_all := lw_g (lw_at lw_m6 156 rfl) rfl
theorem q1449 : (Jvm.Cond.code ({ cls := "ThrowRules$Mistake", name := "<init>", desc := "(III)V" } : Jvm.MethodName) prog_12_method_1_code (4 : Nat) (Option.none : Option Jvm.ClassFile.FieldType)) ∈ lw_all := lw_g (lw_at lw_m6 157 rfl) rfl
theorem q1450 : (Jvm.Cond.methodLink "ThrowRules$Mistake" (1 : Nat) ({ cls := "java/lang/Record", name := "<init>", desc := "()V" } : Jvm.MethodName)) ∈ lw_all := lw_g (lw_at lw_m6 158 rfl) rfl
theorem q1454 : (Jvm.Cond.fieldLink "ThrowRules$Mistake" (7 : Nat) "ThrowRules$Mistake" "code" "I") ∈ lw_all := lw_g (lw_at lw_m6 162 rfl) rfl
theorem q1456 : (Jvm.Cond.fieldLink "ThrowRules$Mistake" (13 : Nat) "ThrowRules$Mistake" "place" "I") ∈ lw_all := lw_g (lw_at lw_m6 164 rfl) rfl
theorem q1458 : (Jvm.Cond.fieldLink "ThrowRules$Mistake" (16 : Nat) "ThrowRules$Mistake" "kind" "I") ∈ lw_all := lw_g (lw_at lw_m6 166 rfl) rfl
theorem q1460 : (Jvm.Cond.laysFinal "ThrowRules$Mistake" "ThrowRules$Mistake" "code" "I") ∈ lw_all := lw_g (lw_at lw_m6 168 rfl) rfl
theorem q1461 : (Jvm.Cond.soleField "ThrowRules$Mistake" "code") ∈ lw_all := lw_g (lw_at lw_m6 169 rfl) rfl
theorem q1462 : (Jvm.Cond.laysFinal "ThrowRules$Mistake" "ThrowRules$Mistake" "place" "I") ∈ lw_all := lw_g (lw_at lw_m6 170 rfl) rfl
theorem q1463 : (Jvm.Cond.soleField "ThrowRules$Mistake" "place") ∈ lw_all := lw_g (lw_at lw_m6 171 rfl) rfl
theorem q1464 : (Jvm.Cond.laysFinal "ThrowRules$Mistake" "ThrowRules$Mistake" "kind" "I") ∈ lw_all := lw_g (lw_at lw_m6 172 rfl) rfl
theorem q1465 : (Jvm.Cond.soleField "ThrowRules$Mistake" "kind") ∈ lw_all := lw_g (lw_at lw_m6 173 rfl) rfl
theorem q1466 : (Jvm.Cond.superclass "ThrowRules$Mistake" "java/lang/Record") ∈ lw_all := lw_g (lw_at lw_m6 174 rfl) rfl
theorem q1480 : (Jvm.Cond.instanceMethod ({ cls := "ThrowRules$Mistake", name := "isAhead", desc := "(LThrowRules$Mistake;)Z" } : Jvm.MethodName)) ∈ lw_all := lw_g (lw_at lw_m6 188 rfl) rfl
theorem q1481 : (Jvm.Cond.selects "ThrowRules$Mistake" ({ cls := "ThrowRules$Mistake", name := "isAhead", desc := "(LThrowRules$Mistake;)Z" } : Jvm.MethodName) ({ cls := "ThrowRules$Mistake", name := "isAhead", desc := "(LThrowRules$Mistake;)Z" } : Jvm.MethodName)) ∈ lw_all := lw_g (lw_at lw_m6 189 rfl) rfl
theorem q1482 : (Jvm.Cond.code ({ cls := "ThrowRules$Mistake", name := "isAhead", desc := "(LThrowRules$Mistake;)Z" } : Jvm.MethodName) prog_12_method_2_code (2 : Nat) (Option.some Jvm.ClassFile.FieldType.boolean)) ∈ lw_all := lw_g (lw_at lw_m6 190 rfl) rfl
theorem q2949 : (Jvm.Cond.castable "ThrowRules$Mistake" "java/lang/Object") ∈ lw_tbl := lw_at lw_m12 217 rfl
theorem in_X7 : ∀ w ∈ wsX70, w ∈ lw_all := lw_in wsX70 [1460, 1462, 1464] (by decide +kernel) (by decide +kernel)

/-! ThrowRules$Method -/
set_option maxRecDepth 100000
def RX8 : String := "ThrowRules$Method"
def TX8 : u_T := fun k => match k with
  | 0 => ("ThrowRules$Method", "name", "Ljava/lang/String;", true)
  | 1 => ("ThrowRules$Method", "number", "I", true)
  | 2 => ("ThrowRules$Method", "place", "I", true)
  | 3 => ("ThrowRules$Method", "isFree", "Z", false)
  | 4 => ("ThrowRules$Method", "over", "Ljava/lang/String;", false)
  | 5 => ("ThrowRules$Method", "overPlace", "I", false)
  | 6 => ("ThrowRules$Method", "overs", "LThrowRules$Method;", false)
  | 7 => ("ThrowRules$Method", "told", "Ljava/util/ArrayList;", false)
  | _ => ("ThrowRules$Method", "body", "LThrowRules$Block;", false)
def tyX8 : Nat → FieldType := fun k => match k with
  | 0 => .object "java/lang/String"
  | 1 => .int
  | 2 => .int
  | 3 => .boolean
  | 4 => .object "java/lang/String"
  | 5 => .int
  | 6 => .object "ThrowRules$Method"
  | 7 => .object "java/util/ArrayList"
  | _ => .object "ThrowRules$Block"
abbrev wsX80 : List Cond := u_ws RX8 TX8 9
theorem nmX8 : ∀ a, a < 9 → ∀ b, b < 9 → a ≠ b → (TX8 a).2.1 ≠ (TX8 b).2.1 := by decide +kernel
theorem tyX8_ok : ∀ k, k < 9 → parseFieldDescriptor (TX8 k).2.2.1 = some (tyX8 k) := by decide +kernel
abbrev cX8_init : ByteArray := prog_11_method_1_code
def yX8_init : MethodName := ⟨RX8, "<init>", "(Ljava/lang/String;II)V"⟩
def dkwX8_init_1 : List UInt8 := [181, 0, 22, 42, 29, 181, 0, 26, 177]
abbrev dktX8_init_1 : List UInt8 := dkwX8_init_1 ++ []
def dkwX8_init_0 : List UInt8 := [42, 183, 0, 1, 42, 187, 0, 7, 89, 5, 183, 0, 9, 181, 0, 12, 42, 43, 181, 0, 18, 42, 28]
abbrev dktX8_init_0 : List UInt8 := dkwX8_init_0 ++ dktX8_init_1
theorem dksX8_init_0 : cX8_init.data.toList.drop 0 = dktX8_init_0 := by decide +kernel
theorem dksX8_init_1 : cX8_init.data.toList.drop 23 = dktX8_init_1 := dk_seg dksX8_init_0 23 rfl rfl
theorem dX8_init_0 : decode cX8_init 0 = .ok (.aload_n 0, 1) := dk_42 (dk_at dksX8_init_0 0 rfl rfl)
theorem dX8_init_1 : decode cX8_init 1 = .ok (.invokespecial 1, 3) := dk_183 0 1 (dk_at dksX8_init_0 1 rfl rfl)
theorem dX8_init_4 : decode cX8_init 4 = .ok (.aload_n 0, 1) := dk_42 (dk_at dksX8_init_0 4 rfl rfl)
theorem dX8_init_5 : decode cX8_init 5 = .ok (.new 7, 3) := dk_187 0 7 (dk_at dksX8_init_0 5 rfl rfl)
theorem dX8_init_8 : decode cX8_init 8 = .ok (.dup, 1) := dk_89 (dk_at dksX8_init_0 8 rfl rfl)
theorem dX8_init_9 : decode cX8_init 9 = .ok (.iconst 2, 1) := dk_5 (dk_at dksX8_init_0 9 rfl rfl)
theorem dX8_init_10 : decode cX8_init 10 = .ok (.invokespecial 9, 3) := dk_183 0 9 (dk_at dksX8_init_0 10 rfl rfl)
theorem dX8_init_13 : decode cX8_init 13 = .ok (.putfield 12, 3) := dk_181 0 12 (dk_at dksX8_init_0 13 rfl rfl)
theorem dX8_init_16 : decode cX8_init 16 = .ok (.aload_n 0, 1) := dk_42 (dk_at dksX8_init_0 16 rfl rfl)
theorem dX8_init_17 : decode cX8_init 17 = .ok (.aload_n 1, 1) := dk_43 (dk_at dksX8_init_0 17 rfl rfl)
theorem dX8_init_18 : decode cX8_init 18 = .ok (.putfield 18, 3) := dk_181 0 18 (dk_at dksX8_init_0 18 rfl rfl)
theorem dX8_init_21 : decode cX8_init 21 = .ok (.aload_n 0, 1) := dk_42 (dk_at dksX8_init_0 21 rfl rfl)
theorem dX8_init_22 : decode cX8_init 22 = .ok (.iload_n 2, 1) := dk_28 (dk_at dksX8_init_0 22 rfl rfl)
theorem dX8_init_23 : decode cX8_init 23 = .ok (.putfield 22, 3) := dk_181 0 22 (dk_at dksX8_init_1 0 rfl rfl)
theorem dX8_init_26 : decode cX8_init 26 = .ok (.aload_n 0, 1) := dk_42 (dk_at dksX8_init_1 3 rfl rfl)
theorem dX8_init_27 : decode cX8_init 27 = .ok (.iload_n 3, 1) := dk_29 (dk_at dksX8_init_1 4 rfl rfl)
theorem dX8_init_28 : decode cX8_init 28 = .ok (.putfield 26, 3) := dk_181 0 26 (dk_at dksX8_init_1 5 rfl rfl)
theorem dX8_init_31 : decode cX8_init 31 = .ok (.return_, 1) := dk_177 (dk_at dksX8_init_1 8 rfl rfl)
theorem q130 : (Jvm.Cond.initialized "ThrowRules$Method") ∈ lw_all := lw_g (lw_at lw_m1 38 rfl) rfl
theorem q430 : (Jvm.Cond.selects "ThrowRules$Method" ({ cls := "java/lang/Object", name := "getClass", desc := "()Ljava/lang/Class;" } : Jvm.MethodName) ({ cls := "java/lang/Object", name := "getClass", desc := "()Ljava/lang/Class;" } : Jvm.MethodName)) ∈ lw_all := lw_g (lw_at lw_m2 98 rfl) rfl
theorem q491 : (Jvm.Cond.selects "ThrowRules$Method" ({ cls := "java/lang/Object", name := "hashCode", desc := "()I" } : Jvm.MethodName) ({ cls := "java/lang/Object", name := "hashCode", desc := "()I" } : Jvm.MethodName)) ∈ lw_all := lw_g (lw_at lw_m2 159 rfl) rfl
theorem q591 : (Jvm.Cond.selects "ThrowRules$Method" ({ cls := "java/lang/Object", name := "equals", desc := "(Ljava/lang/Object;)Z" } : Jvm.MethodName) ({ cls := "java/lang/Object", name := "equals", desc := "(Ljava/lang/Object;)Z" } : Jvm.MethodName)) ∈ lw_all := lw_g (lw_at lw_m3 19 rfl) rfl
theorem q1501 : (Jvm.Cond.instantiable "ThrowRules$Method" (9 : Nat)) ∈ lw_all := lw_g (lw_at lw_m6 209 rfl) rfl
theorem q1503 : (Jvm.Cond.instanceMethod ({ cls := "ThrowRules$Method", name := "<init>", desc := "(Ljava/lang/String;II)V" } : Jvm.MethodName)) ∈ lw_all := lw_g (lw_at lw_m6 211 rfl) rfl
theorem q1504 : (Jvm.Cond.code ({ cls := "ThrowRules$Method", name := "<init>", desc := "(Ljava/lang/String;II)V" } : Jvm.MethodName) prog_11_method_1_code (4 : Nat) (Option.none : Option Jvm.ClassFile.FieldType)) ∈ lw_all := lw_g (lw_at lw_m6 212 rfl) rfl
theorem q1505 : (Jvm.Cond.methodLink "ThrowRules$Method" (1 : Nat) ({ cls := "java/lang/Object", name := "<init>", desc := "()V" } : Jvm.MethodName)) ∈ lw_all := lw_g (lw_at lw_m6 213 rfl) rfl
theorem q1506 : (Jvm.Cond.classLink "ThrowRules$Method" (7 : Nat) "java/util/ArrayList") ∈ lw_all := lw_g (lw_at lw_m6 214 rfl) rfl
theorem q1507 : (Jvm.Cond.methodLink "ThrowRules$Method" (9 : Nat) ({ cls := "java/util/ArrayList", name := "<init>", desc := "(I)V" } : Jvm.MethodName)) ∈ lw_all := lw_g (lw_at lw_m6 215 rfl) rfl
theorem q1512 : (Jvm.Cond.fieldLink "ThrowRules$Method" (18 : Nat) "ThrowRules$Method" "name" "Ljava/lang/String;") ∈ lw_all := lw_g (lw_at lw_m6 220 rfl) rfl
theorem q1513 : (Jvm.Cond.fieldLink "ThrowRules$Method" (22 : Nat) "ThrowRules$Method" "number" "I") ∈ lw_all := lw_g (lw_at lw_m6 221 rfl) rfl
theorem q1515 : (Jvm.Cond.fieldLink "ThrowRules$Method" (26 : Nat) "ThrowRules$Method" "place" "I") ∈ lw_all := lw_g (lw_at lw_m6 223 rfl) rfl
theorem q1525 : (Jvm.Cond.fieldLink "ThrowRules$Method" (12 : Nat) "ThrowRules$Method" "told" "Ljava/util/ArrayList;") ∈ lw_all := lw_g (lw_at lw_m6 233 rfl) rfl
theorem q1533 : (Jvm.Cond.laysFinal "ThrowRules$Method" "ThrowRules$Method" "name" "Ljava/lang/String;") ∈ lw_all := lw_g (lw_at lw_m7 1 rfl) rfl
theorem q1534 : (Jvm.Cond.soleField "ThrowRules$Method" "name") ∈ lw_all := lw_g (lw_at lw_m7 2 rfl) rfl
theorem q1535 : (Jvm.Cond.laysFinal "ThrowRules$Method" "ThrowRules$Method" "number" "I") ∈ lw_all := lw_g (lw_at lw_m7 3 rfl) rfl
theorem q1536 : (Jvm.Cond.soleField "ThrowRules$Method" "number") ∈ lw_all := lw_g (lw_at lw_m7 4 rfl) rfl
theorem q1537 : (Jvm.Cond.laysFinal "ThrowRules$Method" "ThrowRules$Method" "place" "I") ∈ lw_all := lw_g (lw_at lw_m7 5 rfl) rfl
theorem q1538 : (Jvm.Cond.soleField "ThrowRules$Method" "place") ∈ lw_all := lw_g (lw_at lw_m7 6 rfl) rfl
theorem q1539 : (Jvm.Cond.lays "ThrowRules$Method" "ThrowRules$Method" "isFree" "Z") ∈ lw_all := lw_g (lw_at lw_m7 7 rfl) rfl
theorem q1540 : (Jvm.Cond.soleField "ThrowRules$Method" "isFree") ∈ lw_all := lw_g (lw_at lw_m7 8 rfl) rfl
theorem q1541 : (Jvm.Cond.lays "ThrowRules$Method" "ThrowRules$Method" "over" "Ljava/lang/String;") ∈ lw_all := lw_g (lw_at lw_m7 9 rfl) rfl
theorem q1542 : (Jvm.Cond.soleField "ThrowRules$Method" "over") ∈ lw_all := lw_g (lw_at lw_m7 10 rfl) rfl
theorem q1543 : (Jvm.Cond.lays "ThrowRules$Method" "ThrowRules$Method" "overPlace" "I") ∈ lw_all := lw_g (lw_at lw_m7 11 rfl) rfl
theorem q1544 : (Jvm.Cond.soleField "ThrowRules$Method" "overPlace") ∈ lw_all := lw_g (lw_at lw_m7 12 rfl) rfl
theorem q1545 : (Jvm.Cond.lays "ThrowRules$Method" "ThrowRules$Method" "overs" "LThrowRules$Method;") ∈ lw_all := lw_g (lw_at lw_m7 13 rfl) rfl
theorem q1546 : (Jvm.Cond.soleField "ThrowRules$Method" "overs") ∈ lw_all := lw_g (lw_at lw_m7 14 rfl) rfl
theorem q1547 : (Jvm.Cond.lays "ThrowRules$Method" "ThrowRules$Method" "told" "Ljava/util/ArrayList;") ∈ lw_all := lw_g (lw_at lw_m7 15 rfl) rfl
theorem q1548 : (Jvm.Cond.soleField "ThrowRules$Method" "told") ∈ lw_all := lw_g (lw_at lw_m7 16 rfl) rfl
theorem q1549 : (Jvm.Cond.lays "ThrowRules$Method" "ThrowRules$Method" "body" "LThrowRules$Block;") ∈ lw_all := lw_g (lw_at lw_m7 17 rfl) rfl
theorem q1550 : (Jvm.Cond.soleField "ThrowRules$Method" "body") ∈ lw_all := lw_g (lw_at lw_m7 18 rfl) rfl
theorem q1551 : (Jvm.Cond.superclass "ThrowRules$Method" "java/lang/Object") ∈ lw_all := lw_g (lw_at lw_m7 19 rfl) rfl
theorem q2950 : (Jvm.Cond.castable "ThrowRules$Method" "java/lang/Object") ∈ lw_tbl := lw_at lw_m12 218 rfl
theorem in_X8 : ∀ w ∈ wsX80, w ∈ lw_all := lw_in wsX80 [1533, 1535, 1537, 1539, 1541, 1543, 1545, 1547, 1549] (by decide +kernel) (by decide +kernel)

/-! ThrowRules$Named -/
set_option maxRecDepth 100000
def RX9 : String := "ThrowRules$Named"
def TX9 : u_T := fun k => match k with
  | 0 => ("ThrowRules$Named", "kind", "LThrowRules$Kind;", true)
  | _ => ("ThrowRules$Named", "place", "I", true)
def tyX9 : Nat → FieldType := fun k => match k with
  | 0 => .object "ThrowRules$Kind"
  | _ => .int
abbrev wsX90 : List Cond := u_ws RX9 TX9 2
theorem nmX9 : ∀ a, a < 2 → ∀ b, b < 2 → a ≠ b → (TX9 a).2.1 ≠ (TX9 b).2.1 := by decide +kernel
theorem tyX9_ok : ∀ k, k < 2 → parseFieldDescriptor (TX9 k).2.2.1 = some (tyX9 k) := by decide +kernel
abbrev cX9_init : ByteArray := prog_13_method_1_code
def yX9_init : MethodName := ⟨RX9, "<init>", "(LThrowRules$Kind;I)V"⟩
def dkwX9_init_0 : List UInt8 := [42, 183, 0, 1, 42, 43, 181, 0, 7, 42, 28, 181, 0, 13, 177]
abbrev dktX9_init_0 : List UInt8 := dkwX9_init_0 ++ []
theorem dksX9_init_0 : cX9_init.data.toList.drop 0 = dktX9_init_0 := by decide +kernel
theorem dX9_init_0 : decode cX9_init 0 = .ok (.aload_n 0, 1) := dk_42 (dk_at dksX9_init_0 0 rfl rfl)
theorem dX9_init_1 : decode cX9_init 1 = .ok (.invokespecial 1, 3) := dk_183 0 1 (dk_at dksX9_init_0 1 rfl rfl)
theorem dX9_init_4 : decode cX9_init 4 = .ok (.aload_n 0, 1) := dk_42 (dk_at dksX9_init_0 4 rfl rfl)
theorem dX9_init_5 : decode cX9_init 5 = .ok (.aload_n 1, 1) := dk_43 (dk_at dksX9_init_0 5 rfl rfl)
theorem dX9_init_6 : decode cX9_init 6 = .ok (.putfield 7, 3) := dk_181 0 7 (dk_at dksX9_init_0 6 rfl rfl)
theorem dX9_init_9 : decode cX9_init 9 = .ok (.aload_n 0, 1) := dk_42 (dk_at dksX9_init_0 9 rfl rfl)
theorem dX9_init_10 : decode cX9_init 10 = .ok (.iload_n 2, 1) := dk_28 (dk_at dksX9_init_0 10 rfl rfl)
theorem dX9_init_11 : decode cX9_init 11 = .ok (.putfield 13, 3) := dk_181 0 13 (dk_at dksX9_init_0 11 rfl rfl)
theorem dX9_init_14 : decode cX9_init 14 = .ok (.return_, 1) := dk_177 (dk_at dksX9_init_0 14 rfl rfl)
theorem q131 : (Jvm.Cond.initialized "ThrowRules$Named") ∈ lw_all := lw_g (lw_at lw_m1 39 rfl) rfl
theorem q432 : (Jvm.Cond.selects "ThrowRules$Named" ({ cls := "java/lang/Object", name := "getClass", desc := "()Ljava/lang/Class;" } : Jvm.MethodName) ({ cls := "java/lang/Object", name := "getClass", desc := "()Ljava/lang/Class;" } : Jvm.MethodName)) ∈ lw_all := lw_g (lw_at lw_m2 100 rfl) rfl
theorem q1563 : (Jvm.Cond.instantiable "ThrowRules$Named" (2 : Nat)) ∈ lw_all := lw_g (lw_at lw_m7 31 rfl) rfl
theorem q1565 : (Jvm.Cond.instanceMethod ({ cls := "ThrowRules$Named", name := "<init>", desc := "(LThrowRules$Kind;I)V" } : Jvm.MethodName)) ∈ lw_all := lw_g (lw_at lw_m7 33 rfl) rfl
theorem q1566 : (Jvm.Cond.code ({ cls := "ThrowRules$Named", name := "<init>", desc := "(LThrowRules$Kind;I)V" } : Jvm.MethodName) prog_13_method_1_code (3 : Nat) (Option.none : Option Jvm.ClassFile.FieldType)) ∈ lw_all := lw_g (lw_at lw_m7 34 rfl) rfl
theorem q1567 : (Jvm.Cond.methodLink "ThrowRules$Named" (1 : Nat) ({ cls := "java/lang/Record", name := "<init>", desc := "()V" } : Jvm.MethodName)) ∈ lw_all := lw_g (lw_at lw_m7 35 rfl) rfl
theorem q1568 : (Jvm.Cond.fieldLink "ThrowRules$Named" (7 : Nat) "ThrowRules$Named" "kind" "LThrowRules$Kind;") ∈ lw_all := lw_g (lw_at lw_m7 36 rfl) rfl
theorem q1574 : (Jvm.Cond.fieldLink "ThrowRules$Named" (13 : Nat) "ThrowRules$Named" "place" "I") ∈ lw_all := lw_g (lw_at lw_m7 42 rfl) rfl
theorem q1577 : (Jvm.Cond.laysFinal "ThrowRules$Named" "ThrowRules$Named" "kind" "LThrowRules$Kind;") ∈ lw_all := lw_g (lw_at lw_m7 45 rfl) rfl
theorem q1578 : (Jvm.Cond.soleField "ThrowRules$Named" "kind") ∈ lw_all := lw_g (lw_at lw_m7 46 rfl) rfl
theorem q1579 : (Jvm.Cond.laysFinal "ThrowRules$Named" "ThrowRules$Named" "place" "I") ∈ lw_all := lw_g (lw_at lw_m7 47 rfl) rfl
theorem q1580 : (Jvm.Cond.soleField "ThrowRules$Named" "place") ∈ lw_all := lw_g (lw_at lw_m7 48 rfl) rfl
theorem q1581 : (Jvm.Cond.superclass "ThrowRules$Named" "java/lang/Record") ∈ lw_all := lw_g (lw_at lw_m7 49 rfl) rfl
theorem q2951 : (Jvm.Cond.castable "ThrowRules$Named" "java/lang/Object") ∈ lw_tbl := lw_at lw_m12 219 rfl
theorem in_X9 : ∀ w ∈ wsX90, w ∈ lw_all := lw_in wsX90 [1577, 1579] (by decide +kernel) (by decide +kernel)

theorem q92 : (Jvm.Cond.initialized "ThrowRulesLaw") ∈ lw_all := lw_g (lw_at lw_m1 0 rfl) rfl
set_option maxRecDepth 100000
theorem q146 : (Jvm.Cond.classLink "ThrowRulesLaw" (7 : Nat) "ThrowRules") ∈ lw_all := lw_g (lw_at lw_m1 54 rfl) rfl
theorem q148 : (Jvm.Cond.methodLink "ThrowRulesLaw" (9 : Nat) ({ cls := "ThrowRules", name := "<init>", desc := "()V" } : Jvm.MethodName)) ∈ lw_all := lw_g (lw_at lw_m1 56 rfl) rfl
theorem q1079 : (Jvm.Cond.methodLink "ThrowRulesLaw" (13 : Nat) ({ cls := "ThrowRules", name := "feed", desc := "(IIIII)I" } : Jvm.MethodName)) ∈ lw_all := lw_g (lw_at lw_m5 27 rfl) rfl
theorem q1087 : (Jvm.Cond.methodLink "ThrowRulesLaw" (18 : Nat) ({ cls := "ThrowRules", name := "cut", desc := "(I)I" } : Jvm.MethodName)) ∈ lw_all := lw_g (lw_at lw_m5 35 rfl) rfl
theorem q1094 : (Jvm.Cond.methodLink "ThrowRulesLaw" (23 : Nat) ({ cls := "ThrowRules", name := "read", desc := "()I" } : Jvm.MethodName)) ∈ lw_all := lw_g (lw_at lw_m5 42 rfl) rfl
theorem q2172 : (Jvm.Cond.methodLink "ThrowRulesLaw" (28 : Nat) ({ cls := "ThrowRules", name := "told", desc := "(I)I" } : Jvm.MethodName)) ∈ lw_all := lw_g (lw_at lw_m9 160 rfl) rfl
theorem q2176 : (Jvm.Cond.methodLink "ThrowRulesLaw" (32 : Nat) ({ cls := "ThrowRules", name := "mistake", desc := "(II)I" } : Jvm.MethodName)) ∈ lw_all := lw_g (lw_at lw_m9 164 rfl) rfl
theorem q2182 : (Jvm.Cond.methodLink "ThrowRulesLaw" (37 : Nat) ({ cls := "ThrowRules", name := "kind", desc := "(II)I" } : Jvm.MethodName)) ∈ lw_all := lw_g (lw_at lw_m9 170 rfl) rfl
theorem q2188 : (Jvm.Cond.methodLink "ThrowRulesLaw" (41 : Nat) ({ cls := "ThrowRules", name := "below", desc := "(II)Z" } : Jvm.MethodName)) ∈ lw_all := lw_g (lw_at lw_m9 176 rfl) rfl
theorem q2193 : (Jvm.Cond.methodLink "ThrowRulesLaw" (46 : Nat) ({ cls := "ThrowRules", name := "method", desc := "(II)I" } : Jvm.MethodName)) ∈ lw_all := lw_g (lw_at lw_m9 181 rfl) rfl
theorem q2199 : (Jvm.Cond.methodLink "ThrowRulesLaw" (50 : Nat) ({ cls := "ThrowRules", name := "statement", desc := "(II)I" } : Jvm.MethodName)) ∈ lw_all := lw_g (lw_at lw_m9 187 rfl) rfl
theorem q2234 : (Jvm.Cond.methodLink "ThrowRulesLaw" (54 : Nat) ({ cls := "ThrowRules", name := "find", desc := "()I" } : Jvm.MethodName)) ∈ lw_all := lw_g (lw_at lw_m9 222 rfl) rfl
theorem q2243 : (Jvm.Cond.methodLink "ThrowRulesLaw" (60 : Nat) ({ cls := "ThrowRules", name := "walk", desc := "(IJ)I" } : Jvm.MethodName)) ∈ lw_all := lw_g (lw_at lw_m9 231 rfl) rfl
theorem q2345 : (Jvm.Cond.methodLink "ThrowRulesLaw" (65 : Nat) ({ cls := "ThrowRules", name := "steps", desc := "()I" } : Jvm.MethodName)) ∈ lw_all := lw_g (lw_at lw_m10 93 rfl) rfl
theorem q2349 : (Jvm.Cond.classLink "ThrowRulesLaw" (10 : Nat) "ThrowRulesModel") ∈ lw_all := lw_g (lw_at lw_m10 97 rfl) rfl
theorem q2351 : (Jvm.Cond.methodLink "ThrowRulesLaw" (12 : Nat) ({ cls := "ThrowRulesModel", name := "<init>", desc := "()V" } : Jvm.MethodName)) ∈ lw_all := lw_g (lw_at lw_m10 99 rfl) rfl
theorem q2592 : (Jvm.Cond.methodLink "ThrowRulesLaw" (17 : Nat) ({ cls := "ThrowRulesModel", name := "feed", desc := "(IIIII)I" } : Jvm.MethodName)) ∈ lw_all := lw_g (lw_at lw_m11 100 rfl) rfl
theorem q2596 : (Jvm.Cond.methodLink "ThrowRulesLaw" (22 : Nat) ({ cls := "ThrowRulesModel", name := "cut", desc := "(I)I" } : Jvm.MethodName)) ∈ lw_all := lw_g (lw_at lw_m11 104 rfl) rfl
theorem q2600 : (Jvm.Cond.methodLink "ThrowRulesLaw" (27 : Nat) ({ cls := "ThrowRulesModel", name := "read", desc := "()I" } : Jvm.MethodName)) ∈ lw_all := lw_g (lw_at lw_m11 108 rfl) rfl
theorem q2838 : (Jvm.Cond.methodLink "ThrowRulesLaw" (31 : Nat) ({ cls := "ThrowRulesModel", name := "told", desc := "(I)I" } : Jvm.MethodName)) ∈ lw_all := lw_g (lw_at lw_m12 106 rfl) rfl
theorem q2842 : (Jvm.Cond.methodLink "ThrowRulesLaw" (36 : Nat) ({ cls := "ThrowRulesModel", name := "mistake", desc := "(II)I" } : Jvm.MethodName)) ∈ lw_all := lw_g (lw_at lw_m12 110 rfl) rfl
theorem q2846 : (Jvm.Cond.methodLink "ThrowRulesLaw" (40 : Nat) ({ cls := "ThrowRulesModel", name := "kind", desc := "(II)I" } : Jvm.MethodName)) ∈ lw_all := lw_g (lw_at lw_m12 114 rfl) rfl
theorem q2850 : (Jvm.Cond.methodLink "ThrowRulesLaw" (45 : Nat) ({ cls := "ThrowRulesModel", name := "below", desc := "(II)Z" } : Jvm.MethodName)) ∈ lw_all := lw_g (lw_at lw_m12 118 rfl) rfl
theorem q2854 : (Jvm.Cond.methodLink "ThrowRulesLaw" (49 : Nat) ({ cls := "ThrowRulesModel", name := "method", desc := "(II)I" } : Jvm.MethodName)) ∈ lw_all := lw_g (lw_at lw_m12 122 rfl) rfl
theorem q2858 : (Jvm.Cond.methodLink "ThrowRulesLaw" (53 : Nat) ({ cls := "ThrowRulesModel", name := "statement", desc := "(II)I" } : Jvm.MethodName)) ∈ lw_all := lw_g (lw_at lw_m12 126 rfl) rfl
theorem q2862 : (Jvm.Cond.methodLink "ThrowRulesLaw" (57 : Nat) ({ cls := "ThrowRulesModel", name := "find", desc := "()I" } : Jvm.MethodName)) ∈ lw_all := lw_g (lw_at lw_m12 130 rfl) rfl
theorem q2866 : (Jvm.Cond.methodLink "ThrowRulesLaw" (64 : Nat) ({ cls := "ThrowRulesModel", name := "walk", desc := "(IJ)I" } : Jvm.MethodName)) ∈ lw_all := lw_g (lw_at lw_m12 134 rfl) rfl
theorem q2908 : (Jvm.Cond.methodLink "ThrowRulesLaw" (68 : Nat) ({ cls := "ThrowRulesModel", name := "steps", desc := "()I" } : Jvm.MethodName)) ∈ lw_all := lw_g (lw_at lw_m12 176 rfl) rfl
theorem q2912 : (Jvm.Cond.constantLong "ThrowRulesLaw" (58 : Nat) (4294967295 : Int64)) ∈ lw_all := lw_g (lw_at lw_m12 180 rfl) rfl

theorem q1169 : (Jvm.Cond.sameMethod "[B" "java/lang/Object" "clone" "()Ljava/lang/Object;") ∈ lw_all := lw_g (lw_at lw_m5 117 rfl) rfl
set_option maxRecDepth 100000
theorem q1172 : (Jvm.Cond.selects "[B" ({ cls := "[B", name := "clone", desc := "()Ljava/lang/Object;" } : Jvm.MethodName) ({ cls := "java/lang/Object", name := "clone", desc := "()Ljava/lang/Object;" } : Jvm.MethodName)) ∈ lw_all := lw_g (lw_at lw_m5 120 rfl) rfl
theorem q1173 : (Jvm.Cond.castable "[B" "java/lang/Cloneable") ∈ lw_tbl := lw_at lw_m5 121 rfl
theorem q2970 : (Jvm.Cond.castable "[B" "java/lang/Object") ∈ lw_tbl := lw_at lw_m12 238 rfl

theorem q2973 : (Jvm.Cond.castable "[I" "java/lang/Object") ∈ lw_tbl := lw_at lw_m13 1 rfl
set_option maxRecDepth 100000

theorem q2974 : (Jvm.Cond.castable "[J" "java/lang/Object") ∈ lw_tbl := lw_at lw_m13 2 rfl
set_option maxRecDepth 100000

theorem q2967 : (Jvm.Cond.sameMethod "[Ljava/lang/Object;" "java/lang/Object" "getClass" "()Ljava/lang/Class;") ∈ lw_all := lw_g (lw_at lw_m12 235 rfl) rfl
set_option maxRecDepth 100000
theorem q2968 : (Jvm.Cond.selects "[Ljava/lang/Object;" ({ cls := "java/lang/Object", name := "getClass", desc := "()Ljava/lang/Class;" } : Jvm.MethodName) ({ cls := "java/lang/Object", name := "getClass", desc := "()Ljava/lang/Class;" } : Jvm.MethodName)) ∈ lw_all := lw_g (lw_at lw_m12 236 rfl) rfl
theorem q2971 : (Jvm.Cond.castable "[Ljava/lang/Object;" "java/lang/Object") ∈ lw_tbl := lw_at lw_m12 239 rfl

theorem q2972 : (Jvm.Cond.castable "[Ljava/util/HashMap$Node;" "java/lang/Object") ∈ lw_tbl := lw_at lw_m13 0 rfl
set_option maxRecDepth 100000

theorem q2975 : (Jvm.Cond.castable "[Z" "java/lang/Object") ∈ lw_tbl := lw_at lw_m13 3 rfl
set_option maxRecDepth 100000

theorem q1389 : (Jvm.Cond.interfaceMethod "java/lang/CharSequence" "java/lang/CharSequence" "toString" "()Ljava/lang/String;") ∈ lw_tbl := lw_at lw_m6 97 rfl
set_option maxRecDepth 100000
theorem q1390 : (Jvm.Cond.declares ({ cls := "java/lang/CharSequence", name := "toString", desc := "()Ljava/lang/String;" } : Jvm.MethodName)) ∈ lw_tbl := lw_at lw_m6 98 rfl

theorem q645 : (Jvm.Cond.interfaceMethod "java/lang/Comparable" "java/lang/Comparable" "compareTo" "(Ljava/lang/Object;)I") ∈ lw_tbl := lw_at lw_m3 73 rfl
set_option maxRecDepth 100000
theorem q646 : (Jvm.Cond.declares ({ cls := "java/lang/Comparable", name := "compareTo", desc := "(Ljava/lang/Object;)I" } : Jvm.MethodName)) ∈ lw_tbl := lw_at lw_m3 74 rfl

theorem q144 : (Jvm.Cond.initialized "java/lang/Integer$IntegerCache") ∈ lw_all := lw_g (lw_at lw_m1 52 rfl) rfl
set_option maxRecDepth 100000
theorem q1917 : (Jvm.Cond.laysStatic "java/lang/Integer$IntegerCache" "high" "I") ∈ lw_tbl := lw_at lw_m8 145 rfl
theorem q1919 : (Jvm.Cond.laysStatic "java/lang/Integer$IntegerCache" "cache" "[Ljava/lang/Integer;") ∈ lw_tbl := lw_at lw_m8 147 rfl

theorem q109 : (Jvm.Cond.initialized "java/lang/System") ∈ lw_all := lw_g (lw_at lw_m1 17 rfl) rfl
set_option maxRecDepth 100000
theorem q462 : (Jvm.Cond.static ({ cls := "java/lang/System", name := "arraycopy", desc := "(Ljava/lang/Object;ILjava/lang/Object;II)V" } : Jvm.MethodName)) ∈ lw_all := lw_g (lw_at lw_m2 130 rfl) rfl
theorem q463 : (Jvm.Cond.native ({ cls := "java/lang/System", name := "arraycopy", desc := "(Ljava/lang/Object;ILjava/lang/Object;II)V" } : Jvm.MethodName)) ∈ lw_all := lw_g (lw_at lw_m2 131 rfl) rfl

theorem q533 : (Jvm.Cond.interfaceMethod "jdk/internal/access/JavaLangAccess" "jdk/internal/access/JavaLangAccess" "getUTF16Char" "([BI)C") ∈ lw_tbl := lw_at lw_m2 201 rfl
set_option maxRecDepth 100000
theorem q534 : (Jvm.Cond.declares ({ cls := "jdk/internal/access/JavaLangAccess", name := "getUTF16Char", desc := "([BI)C" } : Jvm.MethodName)) ∈ lw_tbl := lw_at lw_m2 202 rfl

theorem q116 : (Jvm.Cond.initialized "jdk/internal/misc/UnsafeConstants") ∈ lw_all := lw_g (lw_at lw_m1 24 rfl) rfl
set_option maxRecDepth 100000
theorem q721 : (Jvm.Cond.laysStatic "jdk/internal/misc/UnsafeConstants" "BIG_ENDIAN" "Z") ∈ lw_tbl := lw_at lw_m3 149 rfl

theorem q228 : (Jvm.Cond.arrayClass Jvm.ClassFile.FieldType.byte) ∈ lw_all := lw_g (lw_at lw_m1 136 rfl) rfl
set_option maxRecDepth 100000
theorem q456 : (Jvm.Cond.arrayOver (Jvm.ClassFile.FieldType.object "java/lang/Object")) ∈ lw_tbl := lw_at lw_m2 124 rfl
theorem q870 : (Jvm.Cond.arrayOver (Jvm.ClassFile.FieldType.object "java/util/HashMap$Node")) ∈ lw_tbl := lw_at lw_m4 58 rfl
theorem q2589 : (Jvm.Cond.arrayClass Jvm.ClassFile.FieldType.int) ∈ lw_all := lw_g (lw_at lw_m11 97 rfl) rfl
theorem q2590 : (Jvm.Cond.arrayClass Jvm.ClassFile.FieldType.long) ∈ lw_all := lw_g (lw_at lw_m11 98 rfl) rfl
theorem q2591 : (Jvm.Cond.arrayClass Jvm.ClassFile.FieldType.boolean) ∈ lw_all := lw_g (lw_at lw_m11 99 rfl) rfl
theorem q2976 : (Jvm.Cond.arrayClass Jvm.ClassFile.FieldType.char) ∈ lw_all := lw_g (lw_at lw_m13 4 rfl) rfl
theorem q2977 : (Jvm.Cond.arrayClass Jvm.ClassFile.FieldType.short) ∈ lw_all := lw_g (lw_at lw_m13 5 rfl) rfl

