set_option maxRecDepth 100000
/-! java/lang/Character -/
set_option maxRecDepth 100000
def RJ24 : String := "java/lang/Character"
theorem q126 : (Jvm.Cond.initialized "java/lang/Character") ∈ lw_all := lw_g (lw_at lw_m1 34 rfl) rfl
theorem q1315 : (Jvm.Cond.static ({ cls := "java/lang/Character", name := "isValidCodePoint", desc := "(I)Z" } : Jvm.MethodName)) ∈ lw_all := lw_g (lw_at lw_m6 23 rfl) rfl
theorem q1316 : (Jvm.Cond.code ({ cls := "java/lang/Character", name := "isValidCodePoint", desc := "(I)Z" } : Jvm.MethodName) prog_29_method_11_code (2 : Nat) (Option.some Jvm.ClassFile.FieldType.boolean)) ∈ lw_all := lw_g (lw_at lw_m6 24 rfl) rfl
theorem q1318 : (Jvm.Cond.static ({ cls := "java/lang/Character", name := "highSurrogate", desc := "(I)C" } : Jvm.MethodName)) ∈ lw_all := lw_g (lw_at lw_m6 26 rfl) rfl
theorem q1319 : (Jvm.Cond.code ({ cls := "java/lang/Character", name := "highSurrogate", desc := "(I)C" } : Jvm.MethodName) prog_29_method_28_code (1 : Nat) (Option.some Jvm.ClassFile.FieldType.char)) ∈ lw_all := lw_g (lw_at lw_m6 27 rfl) rfl
theorem q1320 : (Jvm.Cond.constant "java/lang/Character" (110 : Nat) (55232 : Int32)) ∈ lw_all := lw_g (lw_at lw_m6 28 rfl) rfl
theorem q1322 : (Jvm.Cond.static ({ cls := "java/lang/Character", name := "lowSurrogate", desc := "(I)C" } : Jvm.MethodName)) ∈ lw_all := lw_g (lw_at lw_m6 30 rfl) rfl
theorem q1323 : (Jvm.Cond.code ({ cls := "java/lang/Character", name := "lowSurrogate", desc := "(I)C" } : Jvm.MethodName) prog_29_method_29_code (1 : Nat) (Option.some Jvm.ClassFile.FieldType.char)) ∈ lw_all := lw_g (lw_at lw_m6 31 rfl) rfl
theorem q1324 : (Jvm.Cond.constant "java/lang/Character" (76 : Nat) (56320 : Int32)) ∈ lw_all := lw_g (lw_at lw_m6 32 rfl) rfl

/-! java/lang/Record -/
set_option maxRecDepth 100000
def RJ25 : String := "java/lang/Record"
abbrev cJ25_init : ByteArray := prog_39_method_1_code
def yJ25_init : MethodName := ⟨RJ25, "<init>", "()V"⟩
theorem dJ25_init_0 : decode cJ25_init 0 = .ok (.aload_n 0, 1) := by decide +kernel
theorem dJ25_init_1 : decode cJ25_init 1 = .ok (.invokespecial 1, 3) := by decide +kernel
theorem dJ25_init_4 : decode cJ25_init 4 = .ok (.return_, 1) := by decide +kernel
theorem q127 : (Jvm.Cond.initialized "java/lang/Record") ∈ lw_all := lw_g (lw_at lw_m1 35 rfl) rfl
theorem q1451 : (Jvm.Cond.instanceMethod ({ cls := "java/lang/Record", name := "<init>", desc := "()V" } : Jvm.MethodName)) ∈ lw_all := lw_g (lw_at lw_m6 159 rfl) rfl
theorem q1452 : (Jvm.Cond.code ({ cls := "java/lang/Record", name := "<init>", desc := "()V" } : Jvm.MethodName) prog_39_method_1_code (1 : Nat) (Option.none : Option Jvm.ClassFile.FieldType)) ∈ lw_all := lw_g (lw_at lw_m6 160 rfl) rfl
theorem q1453 : (Jvm.Cond.methodLink "java/lang/Record" (1 : Nat) ({ cls := "java/lang/Object", name := "<init>", desc := "()V" } : Jvm.MethodName)) ∈ lw_all := lw_g (lw_at lw_m6 161 rfl) rfl

/-! java/util/Objects -/
set_option maxRecDepth 100000
def RJ26 : String := "java/util/Objects"
abbrev cJ26_checkIndex : ByteArray := prog_63_method_17_code
def yJ26_checkIndex : MethodName := ⟨RJ26, "checkIndex", "(II)I"⟩
def dkwJ26_checkIndex_0 : List UInt8 := [26, 27, 1, 184, 0, 105, 172]
abbrev dktJ26_checkIndex_0 : List UInt8 := dkwJ26_checkIndex_0 ++ []
theorem dksJ26_checkIndex_0 : cJ26_checkIndex.data.toList.drop 0 = dktJ26_checkIndex_0 := by decide +kernel
theorem dJ26_checkIndex_0 : decode cJ26_checkIndex 0 = .ok (.iload_n 0, 1) := dk_26 (dk_at dksJ26_checkIndex_0 0 rfl rfl)
theorem dJ26_checkIndex_1 : decode cJ26_checkIndex 1 = .ok (.iload_n 1, 1) := dk_27 (dk_at dksJ26_checkIndex_0 1 rfl rfl)
theorem dJ26_checkIndex_2 : decode cJ26_checkIndex 2 = .ok (.aconst_null, 1) := dk_1 (dk_at dksJ26_checkIndex_0 2 rfl rfl)
theorem dJ26_checkIndex_3 : decode cJ26_checkIndex 3 = .ok (.invokestatic 105, 3) := dk_184 0 105 (dk_at dksJ26_checkIndex_0 3 rfl rfl)
theorem dJ26_checkIndex_6 : decode cJ26_checkIndex 6 = .ok (.ireturn, 1) := dk_172 (dk_at dksJ26_checkIndex_0 6 rfl rfl)
theorem q129 : (Jvm.Cond.initialized "java/util/Objects") ∈ lw_all := lw_g (lw_at lw_m1 37 rfl) rfl
theorem q1472 : (Jvm.Cond.static ({ cls := "java/util/Objects", name := "checkIndex", desc := "(II)I" } : Jvm.MethodName)) ∈ lw_all := lw_g (lw_at lw_m6 180 rfl) rfl
theorem q1473 : (Jvm.Cond.code ({ cls := "java/util/Objects", name := "checkIndex", desc := "(II)I" } : Jvm.MethodName) prog_63_method_17_code (2 : Nat) (Option.some Jvm.ClassFile.FieldType.int)) ∈ lw_all := lw_g (lw_at lw_m6 181 rfl) rfl
theorem q1474 : (Jvm.Cond.methodLink "java/util/Objects" (105 : Nat) ({ cls := "jdk/internal/util/Preconditions", name := "checkIndex", desc := "(IILjava/util/function/BiFunction;)I" } : Jvm.MethodName)) ∈ lw_all := lw_g (lw_at lw_m6 182 rfl) rfl

/-! java/lang/Object -/
set_option maxRecDepth 100000
def RJ27 : String := "java/lang/Object"
theorem q152 : (Jvm.Cond.instanceMethod ({ cls := "java/lang/Object", name := "<init>", desc := "()V" } : Jvm.MethodName)) ∈ lw_all := lw_g (lw_at lw_m1 60 rfl) rfl
theorem q153 : (Jvm.Cond.code ({ cls := "java/lang/Object", name := "<init>", desc := "()V" } : Jvm.MethodName) object_method_1_code (1 : Nat) (Option.none : Option Jvm.ClassFile.FieldType)) ∈ lw_all := lw_g (lw_at lw_m1 61 rfl) rfl
theorem q418 : (Jvm.Cond.instanceMethod ({ cls := "java/lang/Object", name := "getClass", desc := "()Ljava/lang/Class;" } : Jvm.MethodName)) ∈ lw_all := lw_g (lw_at lw_m2 86 rfl) rfl
theorem q419 : (Jvm.Cond.sameMethod "java/lang/Object" "java/lang/Object" "getClass" "()Ljava/lang/Class;") ∈ lw_all := lw_g (lw_at lw_m2 87 rfl) rfl
theorem q451 : (Jvm.Cond.native ({ cls := "java/lang/Object", name := "getClass", desc := "()Ljava/lang/Class;" } : Jvm.MethodName)) ∈ lw_all := lw_g (lw_at lw_m2 119 rfl) rfl
theorem q477 : (Jvm.Cond.declares ({ cls := "java/lang/Object", name := "hashCode", desc := "()I" } : Jvm.MethodName)) ∈ lw_tbl := lw_at lw_m2 145 rfl
theorem q479 : (Jvm.Cond.instanceMethod ({ cls := "java/lang/Object", name := "hashCode", desc := "()I" } : Jvm.MethodName)) ∈ lw_all := lw_g (lw_at lw_m2 147 rfl) rfl
theorem q480 : (Jvm.Cond.sameMethod "java/lang/Object" "java/lang/Object" "hashCode" "()I") ∈ lw_all := lw_g (lw_at lw_m2 148 rfl) rfl
theorem q576 : (Jvm.Cond.native ({ cls := "java/lang/Object", name := "hashCode", desc := "()I" } : Jvm.MethodName)) ∈ lw_all := lw_g (lw_at lw_m3 4 rfl) rfl
theorem q577 : (Jvm.Cond.declares ({ cls := "java/lang/Object", name := "equals", desc := "(Ljava/lang/Object;)Z" } : Jvm.MethodName)) ∈ lw_tbl := lw_at lw_m3 5 rfl
theorem q579 : (Jvm.Cond.instanceMethod ({ cls := "java/lang/Object", name := "equals", desc := "(Ljava/lang/Object;)Z" } : Jvm.MethodName)) ∈ lw_all := lw_g (lw_at lw_m3 7 rfl) rfl
theorem q580 : (Jvm.Cond.sameMethod "java/lang/Object" "java/lang/Object" "equals" "(Ljava/lang/Object;)Z") ∈ lw_all := lw_g (lw_at lw_m3 8 rfl) rfl
theorem q619 : (Jvm.Cond.code ({ cls := "java/lang/Object", name := "equals", desc := "(Ljava/lang/Object;)Z" } : Jvm.MethodName) object_method_4_code (2 : Nat) (Option.some Jvm.ClassFile.FieldType.boolean)) ∈ lw_all := lw_g (lw_at lw_m3 47 rfl) rfl
theorem q1170 : (Jvm.Cond.native ({ cls := "java/lang/Object", name := "clone", desc := "()Ljava/lang/Object;" } : Jvm.MethodName)) ∈ lw_all := lw_g (lw_at lw_m5 118 rfl) rfl
theorem q1171 : (Jvm.Cond.instanceMethod ({ cls := "java/lang/Object", name := "clone", desc := "()Ljava/lang/Object;" } : Jvm.MethodName)) ∈ lw_all := lw_g (lw_at lw_m5 119 rfl) rfl
theorem q2969 : (Jvm.Cond.declares ({ cls := "java/lang/Object", name := "getClass", desc := "()Ljava/lang/Class;" } : Jvm.MethodName)) ∈ lw_tbl := lw_at lw_m12 237 rfl

/-! java/lang/System$2 -/
set_option maxRecDepth 100000
def RJ28 : String := "java/lang/System$2"
theorem q445 : (Jvm.Cond.selects "java/lang/System$2" ({ cls := "java/lang/Object", name := "getClass", desc := "()Ljava/lang/Class;" } : Jvm.MethodName) ({ cls := "java/lang/Object", name := "getClass", desc := "()Ljava/lang/Class;" } : Jvm.MethodName)) ∈ lw_all := lw_g (lw_at lw_m2 113 rfl) rfl
theorem q535 : (Jvm.Cond.castable "java/lang/System$2" "jdk/internal/access/JavaLangAccess") ∈ lw_tbl := lw_at lw_m2 203 rfl
theorem q536 : (Jvm.Cond.selects "java/lang/System$2" ({ cls := "jdk/internal/access/JavaLangAccess", name := "getUTF16Char", desc := "([BI)C" } : Jvm.MethodName) ({ cls := "java/lang/System$2", name := "getUTF16Char", desc := "([BI)C" } : Jvm.MethodName)) ∈ lw_all := lw_g (lw_at lw_m2 204 rfl) rfl
theorem q537 : (Jvm.Cond.unhidden "java/lang/System$2" "getUTF16Char" "([BI)C") ∈ lw_tbl := lw_at lw_m2 205 rfl
theorem q538 : (Jvm.Cond.instanceMethod ({ cls := "java/lang/System$2", name := "getUTF16Char", desc := "([BI)C" } : Jvm.MethodName)) ∈ lw_all := lw_g (lw_at lw_m2 206 rfl) rfl
theorem q539 : (Jvm.Cond.publicMethod ({ cls := "java/lang/System$2", name := "getUTF16Char", desc := "([BI)C" } : Jvm.MethodName)) ∈ lw_tbl := lw_at lw_m2 207 rfl
theorem q540 : (Jvm.Cond.code ({ cls := "java/lang/System$2", name := "getUTF16Char", desc := "([BI)C" } : Jvm.MethodName) prog_46_method_45_code (3 : Nat) (Option.some Jvm.ClassFile.FieldType.char)) ∈ lw_all := lw_g (lw_at lw_m2 208 rfl) rfl
theorem q541 : (Jvm.Cond.methodLink "java/lang/System$2" (185 : Nat) ({ cls := "java/lang/StringUTF16", name := "getChar", desc := "([BI)C" } : Jvm.MethodName)) ∈ lw_all := lw_g (lw_at lw_m2 209 rfl) rfl
theorem q574 : (Jvm.Cond.selects "java/lang/System$2" ({ cls := "java/lang/Object", name := "hashCode", desc := "()I" } : Jvm.MethodName) ({ cls := "java/lang/Object", name := "hashCode", desc := "()I" } : Jvm.MethodName)) ∈ lw_all := lw_g (lw_at lw_m3 2 rfl) rfl
theorem q617 : (Jvm.Cond.selects "java/lang/System$2" ({ cls := "java/lang/Object", name := "equals", desc := "(Ljava/lang/Object;)Z" } : Jvm.MethodName) ({ cls := "java/lang/Object", name := "equals", desc := "(Ljava/lang/Object;)Z" } : Jvm.MethodName)) ∈ lw_all := lw_g (lw_at lw_m3 45 rfl) rfl
theorem q2942 : (Jvm.Cond.castable "java/lang/System$2" "java/lang/Object") ∈ lw_tbl := lw_at lw_m12 210 rfl

/-! java/util/AbstractCollection -/
set_option maxRecDepth 100000
def RJ3 : String := "java/util/AbstractCollection"
abbrev cJ3_init : ByteArray := prog_50_method_1_code
def yJ3_init : MethodName := ⟨RJ3, "<init>", "()V"⟩
theorem dJ3_init_0 : decode cJ3_init 0 = .ok (.aload_n 0, 1) := by decide +kernel
theorem dJ3_init_1 : decode cJ3_init 1 = .ok (.invokespecial 1, 3) := by decide +kernel
theorem dJ3_init_4 : decode cJ3_init 4 = .ok (.return_, 1) := by decide +kernel
theorem q99 : (Jvm.Cond.initialized "java/util/AbstractCollection") ∈ lw_all := lw_g (lw_at lw_m1 7 rfl) rfl
theorem q238 : (Jvm.Cond.instanceMethod ({ cls := "java/util/AbstractCollection", name := "<init>", desc := "()V" } : Jvm.MethodName)) ∈ lw_all := lw_g (lw_at lw_m1 146 rfl) rfl
theorem q239 : (Jvm.Cond.code ({ cls := "java/util/AbstractCollection", name := "<init>", desc := "()V" } : Jvm.MethodName) prog_50_method_1_code (1 : Nat) (Option.none : Option Jvm.ClassFile.FieldType)) ∈ lw_all := lw_g (lw_at lw_m1 147 rfl) rfl
theorem q240 : (Jvm.Cond.methodLink "java/util/AbstractCollection" (1 : Nat) ({ cls := "java/lang/Object", name := "<init>", desc := "()V" } : Jvm.MethodName)) ∈ lw_all := lw_g (lw_at lw_m1 148 rfl) rfl

/-! java/util/AbstractList -/
set_option maxRecDepth 100000
def RJ4 : String := "java/util/AbstractList"
abbrev cJ4_init : ByteArray := prog_51_method_1_code
def yJ4_init : MethodName := ⟨RJ4, "<init>", "()V"⟩
def dkwJ4_init_0 : List UInt8 := [42, 183, 0, 1, 42, 3, 181, 0, 7, 177]
abbrev dktJ4_init_0 : List UInt8 := dkwJ4_init_0 ++ []
theorem dksJ4_init_0 : cJ4_init.data.toList.drop 0 = dktJ4_init_0 := by decide +kernel
theorem dJ4_init_0 : decode cJ4_init 0 = .ok (.aload_n 0, 1) := dk_42 (dk_at dksJ4_init_0 0 rfl rfl)
theorem dJ4_init_1 : decode cJ4_init 1 = .ok (.invokespecial 1, 3) := dk_183 0 1 (dk_at dksJ4_init_0 1 rfl rfl)
theorem dJ4_init_4 : decode cJ4_init 4 = .ok (.aload_n 0, 1) := dk_42 (dk_at dksJ4_init_0 4 rfl rfl)
theorem dJ4_init_5 : decode cJ4_init 5 = .ok (.iconst 0, 1) := dk_3 (dk_at dksJ4_init_0 5 rfl rfl)
theorem dJ4_init_6 : decode cJ4_init 6 = .ok (.putfield 7, 3) := dk_181 0 7 (dk_at dksJ4_init_0 6 rfl rfl)
theorem dJ4_init_9 : decode cJ4_init 9 = .ok (.return_, 1) := dk_177 (dk_at dksJ4_init_0 9 rfl rfl)
theorem q100 : (Jvm.Cond.initialized "java/util/AbstractList") ∈ lw_all := lw_g (lw_at lw_m1 8 rfl) rfl
theorem q235 : (Jvm.Cond.instanceMethod ({ cls := "java/util/AbstractList", name := "<init>", desc := "()V" } : Jvm.MethodName)) ∈ lw_all := lw_g (lw_at lw_m1 143 rfl) rfl
theorem q236 : (Jvm.Cond.code ({ cls := "java/util/AbstractList", name := "<init>", desc := "()V" } : Jvm.MethodName) prog_51_method_1_code (1 : Nat) (Option.none : Option Jvm.ClassFile.FieldType)) ∈ lw_all := lw_g (lw_at lw_m1 144 rfl) rfl
theorem q237 : (Jvm.Cond.methodLink "java/util/AbstractList" (1 : Nat) ({ cls := "java/util/AbstractCollection", name := "<init>", desc := "()V" } : Jvm.MethodName)) ∈ lw_all := lw_g (lw_at lw_m1 145 rfl) rfl
theorem q245 : (Jvm.Cond.fieldLink "java/util/AbstractList" (7 : Nat) "java/util/AbstractList" "modCount" "I") ∈ lw_all := lw_g (lw_at lw_m1 153 rfl) rfl
theorem q253 : (Jvm.Cond.soleField "java/util/AbstractList" "modCount") ∈ lw_all := lw_g (lw_at lw_m1 161 rfl) rfl

/-! java/util/ArrayList -/
set_option maxRecDepth 100000
def RJ5 : String := "java/util/ArrayList"
def TJ5 : u_T := fun k => match k with
  | 0 => ("java/util/AbstractList", "modCount", "I", false)
  | 1 => ("java/util/ArrayList", "elementData", "[Ljava/lang/Object;", false)
  | _ => ("java/util/ArrayList", "size", "I", false)
def tyJ5 : Nat → FieldType := fun k => match k with
  | 0 => .int
  | 1 => .array (.object "java/lang/Object")
  | _ => .int
abbrev wsJ50 : List Cond := u_ws RJ5 TJ5 3
theorem nmJ5 : ∀ a, a < 3 → ∀ b, b < 3 → a ≠ b → (TJ5 a).2.1 ≠ (TJ5 b).2.1 := by decide +kernel
theorem tyJ5_ok : ∀ k, k < 3 → parseFieldDescriptor (TJ5 k).2.2.1 = some (tyJ5 k) := by decide +kernel
abbrev cJ5_init : ByteArray := prog_53_method_2_code
def yJ5_init : MethodName := ⟨RJ5, "<init>", "()V"⟩
def dkwJ5_init_0 : List UInt8 := [42, 183, 0, 1, 42, 178, 0, 39, 181, 0, 9, 177]
abbrev dktJ5_init_0 : List UInt8 := dkwJ5_init_0 ++ []
theorem dksJ5_init_0 : cJ5_init.data.toList.drop 0 = dktJ5_init_0 := by decide +kernel
theorem dJ5_init_0 : decode cJ5_init 0 = .ok (.aload_n 0, 1) := dk_42 (dk_at dksJ5_init_0 0 rfl rfl)
theorem dJ5_init_1 : decode cJ5_init 1 = .ok (.invokespecial 1, 3) := dk_183 0 1 (dk_at dksJ5_init_0 1 rfl rfl)
theorem dJ5_init_4 : decode cJ5_init 4 = .ok (.aload_n 0, 1) := dk_42 (dk_at dksJ5_init_0 4 rfl rfl)
theorem dJ5_init_5 : decode cJ5_init 5 = .ok (.getstatic 39, 3) := dk_178 0 39 (dk_at dksJ5_init_0 5 rfl rfl)
theorem dJ5_init_8 : decode cJ5_init 8 = .ok (.putfield 9, 3) := dk_181 0 9 (dk_at dksJ5_init_0 8 rfl rfl)
theorem dJ5_init_11 : decode cJ5_init 11 = .ok (.return_, 1) := dk_177 (dk_at dksJ5_init_0 11 rfl rfl)
abbrev cJ5_size : ByteArray := prog_53_method_8_code
def yJ5_size : MethodName := ⟨RJ5, "size", "()I"⟩
theorem dJ5_size_0 : decode cJ5_size 0 = .ok (.aload_n 0, 1) := by decide +kernel
theorem dJ5_size_1 : decode cJ5_size 1 = .ok (.getfield 48, 3) := by decide +kernel
theorem dJ5_size_4 : decode cJ5_size 4 = .ok (.ireturn, 1) := by decide +kernel
abbrev cJ5_add : ByteArray := prog_53_method_25_code
def yJ5_add : MethodName := ⟨RJ5, "add", "(Ljava/lang/Object;)Z"⟩
def dkwJ5_add_1 : List UInt8 := [172]
abbrev dktJ5_add_1 : List UInt8 := dkwJ5_add_1 ++ []
def dkwJ5_add_0 : List UInt8 := [42, 89, 180, 0, 63, 4, 96, 181, 0, 63, 42, 43, 42, 180, 0, 9, 42, 180, 0, 48, 182, 0, 131, 4]
abbrev dktJ5_add_0 : List UInt8 := dkwJ5_add_0 ++ dktJ5_add_1
theorem dksJ5_add_0 : cJ5_add.data.toList.drop 0 = dktJ5_add_0 := by decide +kernel
theorem dksJ5_add_1 : cJ5_add.data.toList.drop 24 = dktJ5_add_1 := dk_seg dksJ5_add_0 24 rfl rfl
theorem dJ5_add_0 : decode cJ5_add 0 = .ok (.aload_n 0, 1) := dk_42 (dk_at dksJ5_add_0 0 rfl rfl)
theorem dJ5_add_1 : decode cJ5_add 1 = .ok (.dup, 1) := dk_89 (dk_at dksJ5_add_0 1 rfl rfl)
theorem dJ5_add_2 : decode cJ5_add 2 = .ok (.getfield 63, 3) := dk_180 0 63 (dk_at dksJ5_add_0 2 rfl rfl)
theorem dJ5_add_5 : decode cJ5_add 5 = .ok (.iconst 1, 1) := dk_4 (dk_at dksJ5_add_0 5 rfl rfl)
theorem dJ5_add_6 : decode cJ5_add 6 = .ok (.iadd, 1) := dk_96 (dk_at dksJ5_add_0 6 rfl rfl)
theorem dJ5_add_7 : decode cJ5_add 7 = .ok (.putfield 63, 3) := dk_181 0 63 (dk_at dksJ5_add_0 7 rfl rfl)
theorem dJ5_add_10 : decode cJ5_add 10 = .ok (.aload_n 0, 1) := dk_42 (dk_at dksJ5_add_0 10 rfl rfl)
theorem dJ5_add_11 : decode cJ5_add 11 = .ok (.aload_n 1, 1) := dk_43 (dk_at dksJ5_add_0 11 rfl rfl)
theorem dJ5_add_12 : decode cJ5_add 12 = .ok (.aload_n 0, 1) := dk_42 (dk_at dksJ5_add_0 12 rfl rfl)
theorem dJ5_add_13 : decode cJ5_add 13 = .ok (.getfield 9, 3) := dk_180 0 9 (dk_at dksJ5_add_0 13 rfl rfl)
theorem dJ5_add_16 : decode cJ5_add 16 = .ok (.aload_n 0, 1) := dk_42 (dk_at dksJ5_add_0 16 rfl rfl)
theorem dJ5_add_17 : decode cJ5_add 17 = .ok (.getfield 48, 3) := dk_180 0 48 (dk_at dksJ5_add_0 17 rfl rfl)
theorem dJ5_add_20 : decode cJ5_add 20 = .ok (.invokevirtual 131, 3) := dk_182 0 131 (dk_at dksJ5_add_0 20 rfl rfl)
theorem dJ5_add_23 : decode cJ5_add 23 = .ok (.iconst 1, 1) := dk_4 (dk_at dksJ5_add_0 23 rfl rfl)
theorem dJ5_add_24 : decode cJ5_add 24 = .ok (.ireturn, 1) := dk_172 (dk_at dksJ5_add_1 0 rfl rfl)
abbrev cJ5_add_2 : ByteArray := prog_53_method_24_code
def yJ5_add_2 : MethodName := ⟨RJ5, "add", "(Ljava/lang/Object;[Ljava/lang/Object;I)V"⟩
def dkwJ5_add_2_0 : List UInt8 := [29, 44, 190, 160, 0, 8, 42, 182, 0, 129, 77, 44, 29, 43, 83, 42, 29, 4, 96, 181, 0, 48, 177]
abbrev dktJ5_add_2_0 : List UInt8 := dkwJ5_add_2_0 ++ []
theorem dksJ5_add_2_0 : cJ5_add_2.data.toList.drop 0 = dktJ5_add_2_0 := by decide +kernel
theorem dJ5_add_2_0 : decode cJ5_add_2 0 = .ok (.iload_n 3, 1) := dk_29 (dk_at dksJ5_add_2_0 0 rfl rfl)
theorem dJ5_add_2_1 : decode cJ5_add_2 1 = .ok (.aload_n 2, 1) := dk_44 (dk_at dksJ5_add_2_0 1 rfl rfl)
theorem dJ5_add_2_2 : decode cJ5_add_2 2 = .ok (.arraylength, 1) := dk_190 (dk_at dksJ5_add_2_0 2 rfl rfl)
theorem dJ5_add_2_3 : decode cJ5_add_2 3 = .ok (.if_icmp .ne 8, 3) := dk_160 0 8 (dk_at dksJ5_add_2_0 3 rfl rfl)
theorem dJ5_add_2_6 : decode cJ5_add_2 6 = .ok (.aload_n 0, 1) := dk_42 (dk_at dksJ5_add_2_0 6 rfl rfl)
theorem dJ5_add_2_7 : decode cJ5_add_2 7 = .ok (.invokevirtual 129, 3) := dk_182 0 129 (dk_at dksJ5_add_2_0 7 rfl rfl)
theorem dJ5_add_2_10 : decode cJ5_add_2 10 = .ok (.astore_n 2, 1) := dk_77 (dk_at dksJ5_add_2_0 10 rfl rfl)
theorem dJ5_add_2_11 : decode cJ5_add_2 11 = .ok (.aload_n 2, 1) := dk_44 (dk_at dksJ5_add_2_0 11 rfl rfl)
theorem dJ5_add_2_12 : decode cJ5_add_2 12 = .ok (.iload_n 3, 1) := dk_29 (dk_at dksJ5_add_2_0 12 rfl rfl)
theorem dJ5_add_2_13 : decode cJ5_add_2 13 = .ok (.aload_n 1, 1) := dk_43 (dk_at dksJ5_add_2_0 13 rfl rfl)
theorem dJ5_add_2_14 : decode cJ5_add_2 14 = .ok (.aastore, 1) := dk_83 (dk_at dksJ5_add_2_0 14 rfl rfl)
theorem dJ5_add_2_15 : decode cJ5_add_2 15 = .ok (.aload_n 0, 1) := dk_42 (dk_at dksJ5_add_2_0 15 rfl rfl)
theorem dJ5_add_2_16 : decode cJ5_add_2 16 = .ok (.iload_n 3, 1) := dk_29 (dk_at dksJ5_add_2_0 16 rfl rfl)
theorem dJ5_add_2_17 : decode cJ5_add_2 17 = .ok (.iconst 1, 1) := dk_4 (dk_at dksJ5_add_2_0 17 rfl rfl)
theorem dJ5_add_2_18 : decode cJ5_add_2 18 = .ok (.iadd, 1) := dk_96 (dk_at dksJ5_add_2_0 18 rfl rfl)
theorem dJ5_add_2_19 : decode cJ5_add_2 19 = .ok (.putfield 48, 3) := dk_181 0 48 (dk_at dksJ5_add_2_0 19 rfl rfl)
theorem dJ5_add_2_22 : decode cJ5_add_2 22 = .ok (.return_, 1) := dk_177 (dk_at dksJ5_add_2_0 22 rfl rfl)
abbrev cJ5_grow : ByteArray := prog_53_method_7_code
def yJ5_grow : MethodName := ⟨RJ5, "grow", "()[Ljava/lang/Object;"⟩
def dkwJ5_grow_0 : List UInt8 := [42, 42, 180, 0, 48, 4, 96, 182, 0, 69, 176]
abbrev dktJ5_grow_0 : List UInt8 := dkwJ5_grow_0 ++ []
theorem dksJ5_grow_0 : cJ5_grow.data.toList.drop 0 = dktJ5_grow_0 := by decide +kernel
theorem dJ5_grow_0 : decode cJ5_grow 0 = .ok (.aload_n 0, 1) := dk_42 (dk_at dksJ5_grow_0 0 rfl rfl)
theorem dJ5_grow_1 : decode cJ5_grow 1 = .ok (.aload_n 0, 1) := dk_42 (dk_at dksJ5_grow_0 1 rfl rfl)
theorem dJ5_grow_2 : decode cJ5_grow 2 = .ok (.getfield 48, 3) := dk_180 0 48 (dk_at dksJ5_grow_0 2 rfl rfl)
theorem dJ5_grow_5 : decode cJ5_grow 5 = .ok (.iconst 1, 1) := dk_4 (dk_at dksJ5_grow_0 5 rfl rfl)
theorem dJ5_grow_6 : decode cJ5_grow 6 = .ok (.iadd, 1) := dk_96 (dk_at dksJ5_grow_0 6 rfl rfl)
theorem dJ5_grow_7 : decode cJ5_grow 7 = .ok (.invokevirtual 69, 3) := dk_182 0 69 (dk_at dksJ5_grow_0 7 rfl rfl)
theorem dJ5_grow_10 : decode cJ5_grow 10 = .ok (.areturn, 1) := dk_176 (dk_at dksJ5_grow_0 10 rfl rfl)
abbrev cJ5_grow_2 : ByteArray := prog_53_method_6_code
def yJ5_grow_2 : MethodName := ⟨RJ5, "grow", "(I)[Ljava/lang/Object;"⟩
def dkwJ5_grow_2_2 : List UInt8 := [27, 184, 0, 79, 189, 0, 7, 90, 181, 0, 9, 176]
abbrev dktJ5_grow_2_2 : List UInt8 := dkwJ5_grow_2_2 ++ []
def dkwJ5_grow_2_1 : List UInt8 := [28, 4, 122, 184, 0, 73, 62, 42, 42, 180, 0, 9, 29, 184, 0, 66, 90, 181, 0, 9, 176, 42, 16, 10]
abbrev dktJ5_grow_2_1 : List UInt8 := dkwJ5_grow_2_1 ++ dktJ5_grow_2_2
def dkwJ5_grow_2_0 : List UInt8 := [42, 180, 0, 9, 190, 61, 28, 157, 0, 13, 42, 180, 0, 9, 178, 0, 39, 165, 0, 28, 28, 27, 28, 100]
abbrev dktJ5_grow_2_0 : List UInt8 := dkwJ5_grow_2_0 ++ dktJ5_grow_2_1
theorem dksJ5_grow_2_0 : cJ5_grow_2.data.toList.drop 0 = dktJ5_grow_2_0 := by decide +kernel
theorem dksJ5_grow_2_1 : cJ5_grow_2.data.toList.drop 24 = dktJ5_grow_2_1 := dk_seg dksJ5_grow_2_0 24 rfl rfl
theorem dksJ5_grow_2_2 : cJ5_grow_2.data.toList.drop 48 = dktJ5_grow_2_2 := dk_seg dksJ5_grow_2_1 24 rfl rfl
theorem dJ5_grow_2_0 : decode cJ5_grow_2 0 = .ok (.aload_n 0, 1) := dk_42 (dk_at dksJ5_grow_2_0 0 rfl rfl)
theorem dJ5_grow_2_1 : decode cJ5_grow_2 1 = .ok (.getfield 9, 3) := dk_180 0 9 (dk_at dksJ5_grow_2_0 1 rfl rfl)
theorem dJ5_grow_2_4 : decode cJ5_grow_2 4 = .ok (.arraylength, 1) := dk_190 (dk_at dksJ5_grow_2_0 4 rfl rfl)
theorem dJ5_grow_2_5 : decode cJ5_grow_2 5 = .ok (.istore_n 2, 1) := dk_61 (dk_at dksJ5_grow_2_0 5 rfl rfl)
theorem dJ5_grow_2_6 : decode cJ5_grow_2 6 = .ok (.iload_n 2, 1) := dk_28 (dk_at dksJ5_grow_2_0 6 rfl rfl)
theorem dJ5_grow_2_7 : decode cJ5_grow_2 7 = .ok (.ifCond .gt 13, 3) := dk_157 0 13 (dk_at dksJ5_grow_2_0 7 rfl rfl)
theorem dJ5_grow_2_10 : decode cJ5_grow_2 10 = .ok (.aload_n 0, 1) := dk_42 (dk_at dksJ5_grow_2_0 10 rfl rfl)
theorem dJ5_grow_2_11 : decode cJ5_grow_2 11 = .ok (.getfield 9, 3) := dk_180 0 9 (dk_at dksJ5_grow_2_0 11 rfl rfl)
theorem dJ5_grow_2_14 : decode cJ5_grow_2 14 = .ok (.getstatic 39, 3) := dk_178 0 39 (dk_at dksJ5_grow_2_0 14 rfl rfl)
theorem dJ5_grow_2_17 : decode cJ5_grow_2 17 = .ok (.if_acmp .eq 28, 3) := dk_165 0 28 (dk_at dksJ5_grow_2_0 17 rfl rfl)
theorem dJ5_grow_2_20 : decode cJ5_grow_2 20 = .ok (.iload_n 2, 1) := dk_28 (dk_at dksJ5_grow_2_0 20 rfl rfl)
theorem dJ5_grow_2_21 : decode cJ5_grow_2 21 = .ok (.iload_n 1, 1) := dk_27 (dk_at dksJ5_grow_2_0 21 rfl rfl)
theorem dJ5_grow_2_22 : decode cJ5_grow_2 22 = .ok (.iload_n 2, 1) := dk_28 (dk_at dksJ5_grow_2_0 22 rfl rfl)
theorem dJ5_grow_2_23 : decode cJ5_grow_2 23 = .ok (.isub, 1) := dk_100 (dk_at dksJ5_grow_2_0 23 rfl rfl)
theorem dJ5_grow_2_24 : decode cJ5_grow_2 24 = .ok (.iload_n 2, 1) := dk_28 (dk_at dksJ5_grow_2_1 0 rfl rfl)
theorem dJ5_grow_2_25 : decode cJ5_grow_2 25 = .ok (.iconst 1, 1) := dk_4 (dk_at dksJ5_grow_2_1 1 rfl rfl)
theorem dJ5_grow_2_26 : decode cJ5_grow_2 26 = .ok (.ishr, 1) := dk_122 (dk_at dksJ5_grow_2_1 2 rfl rfl)
theorem dJ5_grow_2_27 : decode cJ5_grow_2 27 = .ok (.invokestatic 73, 3) := dk_184 0 73 (dk_at dksJ5_grow_2_1 3 rfl rfl)
theorem dJ5_grow_2_30 : decode cJ5_grow_2 30 = .ok (.istore_n 3, 1) := dk_62 (dk_at dksJ5_grow_2_1 6 rfl rfl)
theorem dJ5_grow_2_31 : decode cJ5_grow_2 31 = .ok (.aload_n 0, 1) := dk_42 (dk_at dksJ5_grow_2_1 7 rfl rfl)
theorem dJ5_grow_2_32 : decode cJ5_grow_2 32 = .ok (.aload_n 0, 1) := dk_42 (dk_at dksJ5_grow_2_1 8 rfl rfl)
theorem dJ5_grow_2_33 : decode cJ5_grow_2 33 = .ok (.getfield 9, 3) := dk_180 0 9 (dk_at dksJ5_grow_2_1 9 rfl rfl)
theorem dJ5_grow_2_36 : decode cJ5_grow_2 36 = .ok (.iload_n 3, 1) := dk_29 (dk_at dksJ5_grow_2_1 12 rfl rfl)
theorem dJ5_grow_2_37 : decode cJ5_grow_2 37 = .ok (.invokestatic 66, 3) := dk_184 0 66 (dk_at dksJ5_grow_2_1 13 rfl rfl)
theorem dJ5_grow_2_40 : decode cJ5_grow_2 40 = .ok (.dup_x1, 1) := dk_90 (dk_at dksJ5_grow_2_1 16 rfl rfl)
theorem dJ5_grow_2_41 : decode cJ5_grow_2 41 = .ok (.putfield 9, 3) := dk_181 0 9 (dk_at dksJ5_grow_2_1 17 rfl rfl)
theorem dJ5_grow_2_44 : decode cJ5_grow_2 44 = .ok (.areturn, 1) := dk_176 (dk_at dksJ5_grow_2_1 20 rfl rfl)
theorem dJ5_grow_2_45 : decode cJ5_grow_2 45 = .ok (.aload_n 0, 1) := dk_42 (dk_at dksJ5_grow_2_1 21 rfl rfl)
theorem dJ5_grow_2_46 : decode cJ5_grow_2 46 = .ok (.bipush 10, 2) := dk_16 10 (dk_at dksJ5_grow_2_1 22 rfl rfl)
theorem dJ5_grow_2_48 : decode cJ5_grow_2 48 = .ok (.iload_n 1, 1) := dk_27 (dk_at dksJ5_grow_2_2 0 rfl rfl)
theorem dJ5_grow_2_49 : decode cJ5_grow_2 49 = .ok (.invokestatic 79, 3) := dk_184 0 79 (dk_at dksJ5_grow_2_2 1 rfl rfl)
theorem dJ5_grow_2_52 : decode cJ5_grow_2 52 = .ok (.anewarray 7, 3) := dk_189 0 7 (dk_at dksJ5_grow_2_2 4 rfl rfl)
theorem dJ5_grow_2_55 : decode cJ5_grow_2 55 = .ok (.dup_x1, 1) := dk_90 (dk_at dksJ5_grow_2_2 7 rfl rfl)
theorem dJ5_grow_2_56 : decode cJ5_grow_2 56 = .ok (.putfield 9, 3) := dk_181 0 9 (dk_at dksJ5_grow_2_2 8 rfl rfl)
theorem dJ5_grow_2_59 : decode cJ5_grow_2 59 = .ok (.areturn, 1) := dk_176 (dk_at dksJ5_grow_2_2 11 rfl rfl)
abbrev cJ5_clear : ByteArray := prog_53_method_40_code
def yJ5_clear : MethodName := ⟨RJ5, "clear", "()V"⟩
def dkwJ5_clear_1 : List UInt8 := [181, 0, 48, 62, 29, 28, 162, 0, 13, 43, 29, 1, 83, 132, 3, 1, 167, 255, 244, 177]
abbrev dktJ5_clear_1 : List UInt8 := dkwJ5_clear_1 ++ []
def dkwJ5_clear_0 : List UInt8 := [42, 89, 180, 0, 63, 4, 96, 181, 0, 63, 42, 180, 0, 9, 76, 42, 180, 0, 48, 61, 42, 3, 90]
abbrev dktJ5_clear_0 : List UInt8 := dkwJ5_clear_0 ++ dktJ5_clear_1
theorem dksJ5_clear_0 : cJ5_clear.data.toList.drop 0 = dktJ5_clear_0 := by decide +kernel
theorem dksJ5_clear_1 : cJ5_clear.data.toList.drop 23 = dktJ5_clear_1 := dk_seg dksJ5_clear_0 23 rfl rfl
theorem dJ5_clear_0 : decode cJ5_clear 0 = .ok (.aload_n 0, 1) := dk_42 (dk_at dksJ5_clear_0 0 rfl rfl)
theorem dJ5_clear_1 : decode cJ5_clear 1 = .ok (.dup, 1) := dk_89 (dk_at dksJ5_clear_0 1 rfl rfl)
theorem dJ5_clear_2 : decode cJ5_clear 2 = .ok (.getfield 63, 3) := dk_180 0 63 (dk_at dksJ5_clear_0 2 rfl rfl)
theorem dJ5_clear_5 : decode cJ5_clear 5 = .ok (.iconst 1, 1) := dk_4 (dk_at dksJ5_clear_0 5 rfl rfl)
theorem dJ5_clear_6 : decode cJ5_clear 6 = .ok (.iadd, 1) := dk_96 (dk_at dksJ5_clear_0 6 rfl rfl)
theorem dJ5_clear_7 : decode cJ5_clear 7 = .ok (.putfield 63, 3) := dk_181 0 63 (dk_at dksJ5_clear_0 7 rfl rfl)
theorem dJ5_clear_10 : decode cJ5_clear 10 = .ok (.aload_n 0, 1) := dk_42 (dk_at dksJ5_clear_0 10 rfl rfl)
theorem dJ5_clear_11 : decode cJ5_clear 11 = .ok (.getfield 9, 3) := dk_180 0 9 (dk_at dksJ5_clear_0 11 rfl rfl)
theorem dJ5_clear_14 : decode cJ5_clear 14 = .ok (.astore_n 1, 1) := dk_76 (dk_at dksJ5_clear_0 14 rfl rfl)
theorem dJ5_clear_15 : decode cJ5_clear 15 = .ok (.aload_n 0, 1) := dk_42 (dk_at dksJ5_clear_0 15 rfl rfl)
theorem dJ5_clear_16 : decode cJ5_clear 16 = .ok (.getfield 48, 3) := dk_180 0 48 (dk_at dksJ5_clear_0 16 rfl rfl)
theorem dJ5_clear_19 : decode cJ5_clear 19 = .ok (.istore_n 2, 1) := dk_61 (dk_at dksJ5_clear_0 19 rfl rfl)
theorem dJ5_clear_20 : decode cJ5_clear 20 = .ok (.aload_n 0, 1) := dk_42 (dk_at dksJ5_clear_0 20 rfl rfl)
theorem dJ5_clear_21 : decode cJ5_clear 21 = .ok (.iconst 0, 1) := dk_3 (dk_at dksJ5_clear_0 21 rfl rfl)
theorem dJ5_clear_22 : decode cJ5_clear 22 = .ok (.dup_x1, 1) := dk_90 (dk_at dksJ5_clear_0 22 rfl rfl)
theorem dJ5_clear_23 : decode cJ5_clear 23 = .ok (.putfield 48, 3) := dk_181 0 48 (dk_at dksJ5_clear_1 0 rfl rfl)
theorem dJ5_clear_26 : decode cJ5_clear 26 = .ok (.istore_n 3, 1) := dk_62 (dk_at dksJ5_clear_1 3 rfl rfl)
theorem dJ5_clear_27 : decode cJ5_clear 27 = .ok (.iload_n 3, 1) := dk_29 (dk_at dksJ5_clear_1 4 rfl rfl)
theorem dJ5_clear_28 : decode cJ5_clear 28 = .ok (.iload_n 2, 1) := dk_28 (dk_at dksJ5_clear_1 5 rfl rfl)
theorem dJ5_clear_29 : decode cJ5_clear 29 = .ok (.if_icmp .ge 13, 3) := dk_162 0 13 (dk_at dksJ5_clear_1 6 rfl rfl)
theorem dJ5_clear_32 : decode cJ5_clear 32 = .ok (.aload_n 1, 1) := dk_43 (dk_at dksJ5_clear_1 9 rfl rfl)
theorem dJ5_clear_33 : decode cJ5_clear 33 = .ok (.iload_n 3, 1) := dk_29 (dk_at dksJ5_clear_1 10 rfl rfl)
theorem dJ5_clear_34 : decode cJ5_clear 34 = .ok (.aconst_null, 1) := dk_1 (dk_at dksJ5_clear_1 11 rfl rfl)
theorem dJ5_clear_35 : decode cJ5_clear 35 = .ok (.aastore, 1) := dk_83 (dk_at dksJ5_clear_1 12 rfl rfl)
theorem dJ5_clear_36 : decode cJ5_clear 36 = .ok (.iinc 3 1, 3) := dk_132 3 1 (dk_at dksJ5_clear_1 13 rfl rfl)
theorem dJ5_clear_39 : decode cJ5_clear 39 = .ok (.goto (-12), 3) := dk_167 255 244 (dk_at dksJ5_clear_1 16 rfl rfl)
theorem dJ5_clear_42 : decode cJ5_clear 42 = .ok (.return_, 1) := dk_177 (dk_at dksJ5_clear_1 19 rfl rfl)
abbrev cJ5_get : ByteArray := prog_53_method_20_code
def yJ5_get : MethodName := ⟨RJ5, "get", "(I)Ljava/lang/Object;"⟩
def dkwJ5_get_0 : List UInt8 := [27, 42, 180, 0, 48, 184, 0, 118, 87, 42, 27, 182, 0, 123, 176]
abbrev dktJ5_get_0 : List UInt8 := dkwJ5_get_0 ++ []
theorem dksJ5_get_0 : cJ5_get.data.toList.drop 0 = dktJ5_get_0 := by decide +kernel
theorem dJ5_get_0 : decode cJ5_get 0 = .ok (.iload_n 1, 1) := dk_27 (dk_at dksJ5_get_0 0 rfl rfl)
theorem dJ5_get_1 : decode cJ5_get 1 = .ok (.aload_n 0, 1) := dk_42 (dk_at dksJ5_get_0 1 rfl rfl)
theorem dJ5_get_2 : decode cJ5_get 2 = .ok (.getfield 48, 3) := dk_180 0 48 (dk_at dksJ5_get_0 2 rfl rfl)
theorem dJ5_get_5 : decode cJ5_get 5 = .ok (.invokestatic 118, 3) := dk_184 0 118 (dk_at dksJ5_get_0 5 rfl rfl)
theorem dJ5_get_8 : decode cJ5_get 8 = .ok (.pop, 1) := dk_87 (dk_at dksJ5_get_0 8 rfl rfl)
theorem dJ5_get_9 : decode cJ5_get 9 = .ok (.aload_n 0, 1) := dk_42 (dk_at dksJ5_get_0 9 rfl rfl)
theorem dJ5_get_10 : decode cJ5_get 10 = .ok (.iload_n 1, 1) := dk_27 (dk_at dksJ5_get_0 10 rfl rfl)
theorem dJ5_get_11 : decode cJ5_get 11 = .ok (.invokevirtual 123, 3) := dk_182 0 123 (dk_at dksJ5_get_0 11 rfl rfl)
theorem dJ5_get_14 : decode cJ5_get 14 = .ok (.areturn, 1) := dk_176 (dk_at dksJ5_get_0 14 rfl rfl)
abbrev cJ5_elementData : ByteArray := prog_53_method_18_code
def yJ5_elementData : MethodName := ⟨RJ5, "elementData", "(I)Ljava/lang/Object;"⟩
def dkwJ5_elementData_0 : List UInt8 := [42, 180, 0, 9, 27, 50, 176]
abbrev dktJ5_elementData_0 : List UInt8 := dkwJ5_elementData_0 ++ []
theorem dksJ5_elementData_0 : cJ5_elementData.data.toList.drop 0 = dktJ5_elementData_0 := by decide +kernel
theorem dJ5_elementData_0 : decode cJ5_elementData 0 = .ok (.aload_n 0, 1) := dk_42 (dk_at dksJ5_elementData_0 0 rfl rfl)
theorem dJ5_elementData_1 : decode cJ5_elementData 1 = .ok (.getfield 9, 3) := dk_180 0 9 (dk_at dksJ5_elementData_0 1 rfl rfl)
theorem dJ5_elementData_4 : decode cJ5_elementData 4 = .ok (.iload_n 1, 1) := dk_27 (dk_at dksJ5_elementData_0 4 rfl rfl)
theorem dJ5_elementData_5 : decode cJ5_elementData 5 = .ok (.aaload, 1) := dk_50 (dk_at dksJ5_elementData_0 5 rfl rfl)
theorem dJ5_elementData_6 : decode cJ5_elementData 6 = .ok (.areturn, 1) := dk_176 (dk_at dksJ5_elementData_0 6 rfl rfl)
abbrev cJ5_add_3 : ByteArray := prog_53_method_26_code
def yJ5_add_3 : MethodName := ⟨RJ5, "add", "(ILjava/lang/Object;)V"⟩
def dkwJ5_add_3_2 : List UInt8 := [29, 27, 100, 184, 0, 112, 25, 4, 27, 44, 83, 42, 29, 4, 96, 181, 0, 48, 177]
abbrev dktJ5_add_3_2 : List UInt8 := dkwJ5_add_3_2 ++ []
def dkwJ5_add_3_1 : List UInt8 := [180, 0, 9, 89, 58, 4, 190, 160, 0, 9, 42, 182, 0, 129, 58, 4, 25, 4, 27, 25, 4, 27, 4, 96]
abbrev dktJ5_add_3_1 : List UInt8 := dkwJ5_add_3_1 ++ dktJ5_add_3_2
def dkwJ5_add_3_0 : List UInt8 := [42, 27, 182, 0, 135, 42, 89, 180, 0, 63, 4, 96, 181, 0, 63, 42, 180, 0, 48, 89, 62, 42]
abbrev dktJ5_add_3_0 : List UInt8 := dkwJ5_add_3_0 ++ dktJ5_add_3_1
theorem dksJ5_add_3_0 : cJ5_add_3.data.toList.drop 0 = dktJ5_add_3_0 := by decide +kernel
theorem dksJ5_add_3_1 : cJ5_add_3.data.toList.drop 22 = dktJ5_add_3_1 := dk_seg dksJ5_add_3_0 22 rfl rfl
theorem dksJ5_add_3_2 : cJ5_add_3.data.toList.drop 46 = dktJ5_add_3_2 := dk_seg dksJ5_add_3_1 24 rfl rfl
theorem dJ5_add_3_0 : decode cJ5_add_3 0 = .ok (.aload_n 0, 1) := dk_42 (dk_at dksJ5_add_3_0 0 rfl rfl)
theorem dJ5_add_3_1 : decode cJ5_add_3 1 = .ok (.iload_n 1, 1) := dk_27 (dk_at dksJ5_add_3_0 1 rfl rfl)
theorem dJ5_add_3_2 : decode cJ5_add_3 2 = .ok (.invokevirtual 135, 3) := dk_182 0 135 (dk_at dksJ5_add_3_0 2 rfl rfl)
theorem dJ5_add_3_5 : decode cJ5_add_3 5 = .ok (.aload_n 0, 1) := dk_42 (dk_at dksJ5_add_3_0 5 rfl rfl)
theorem dJ5_add_3_6 : decode cJ5_add_3 6 = .ok (.dup, 1) := dk_89 (dk_at dksJ5_add_3_0 6 rfl rfl)
theorem dJ5_add_3_7 : decode cJ5_add_3 7 = .ok (.getfield 63, 3) := dk_180 0 63 (dk_at dksJ5_add_3_0 7 rfl rfl)
theorem dJ5_add_3_10 : decode cJ5_add_3 10 = .ok (.iconst 1, 1) := dk_4 (dk_at dksJ5_add_3_0 10 rfl rfl)
theorem dJ5_add_3_11 : decode cJ5_add_3 11 = .ok (.iadd, 1) := dk_96 (dk_at dksJ5_add_3_0 11 rfl rfl)
theorem dJ5_add_3_12 : decode cJ5_add_3 12 = .ok (.putfield 63, 3) := dk_181 0 63 (dk_at dksJ5_add_3_0 12 rfl rfl)
theorem dJ5_add_3_15 : decode cJ5_add_3 15 = .ok (.aload_n 0, 1) := dk_42 (dk_at dksJ5_add_3_0 15 rfl rfl)
theorem dJ5_add_3_16 : decode cJ5_add_3 16 = .ok (.getfield 48, 3) := dk_180 0 48 (dk_at dksJ5_add_3_0 16 rfl rfl)
theorem dJ5_add_3_19 : decode cJ5_add_3 19 = .ok (.dup, 1) := dk_89 (dk_at dksJ5_add_3_0 19 rfl rfl)
theorem dJ5_add_3_20 : decode cJ5_add_3 20 = .ok (.istore_n 3, 1) := dk_62 (dk_at dksJ5_add_3_0 20 rfl rfl)
theorem dJ5_add_3_21 : decode cJ5_add_3 21 = .ok (.aload_n 0, 1) := dk_42 (dk_at dksJ5_add_3_0 21 rfl rfl)
theorem dJ5_add_3_22 : decode cJ5_add_3 22 = .ok (.getfield 9, 3) := dk_180 0 9 (dk_at dksJ5_add_3_1 0 rfl rfl)
theorem dJ5_add_3_25 : decode cJ5_add_3 25 = .ok (.dup, 1) := dk_89 (dk_at dksJ5_add_3_1 3 rfl rfl)
theorem dJ5_add_3_26 : decode cJ5_add_3 26 = .ok (.astore 4, 2) := dk_58 4 (dk_at dksJ5_add_3_1 4 rfl rfl)
theorem dJ5_add_3_28 : decode cJ5_add_3 28 = .ok (.arraylength, 1) := dk_190 (dk_at dksJ5_add_3_1 6 rfl rfl)
theorem dJ5_add_3_29 : decode cJ5_add_3 29 = .ok (.if_icmp .ne 9, 3) := dk_160 0 9 (dk_at dksJ5_add_3_1 7 rfl rfl)
theorem dJ5_add_3_32 : decode cJ5_add_3 32 = .ok (.aload_n 0, 1) := dk_42 (dk_at dksJ5_add_3_1 10 rfl rfl)
theorem dJ5_add_3_33 : decode cJ5_add_3 33 = .ok (.invokevirtual 129, 3) := dk_182 0 129 (dk_at dksJ5_add_3_1 11 rfl rfl)
theorem dJ5_add_3_36 : decode cJ5_add_3 36 = .ok (.astore 4, 2) := dk_58 4 (dk_at dksJ5_add_3_1 14 rfl rfl)
theorem dJ5_add_3_38 : decode cJ5_add_3 38 = .ok (.aload 4, 2) := dk_25 4 (dk_at dksJ5_add_3_1 16 rfl rfl)
theorem dJ5_add_3_40 : decode cJ5_add_3 40 = .ok (.iload_n 1, 1) := dk_27 (dk_at dksJ5_add_3_1 18 rfl rfl)
theorem dJ5_add_3_41 : decode cJ5_add_3 41 = .ok (.aload 4, 2) := dk_25 4 (dk_at dksJ5_add_3_1 19 rfl rfl)
theorem dJ5_add_3_43 : decode cJ5_add_3 43 = .ok (.iload_n 1, 1) := dk_27 (dk_at dksJ5_add_3_1 21 rfl rfl)
theorem dJ5_add_3_44 : decode cJ5_add_3 44 = .ok (.iconst 1, 1) := dk_4 (dk_at dksJ5_add_3_1 22 rfl rfl)
theorem dJ5_add_3_45 : decode cJ5_add_3 45 = .ok (.iadd, 1) := dk_96 (dk_at dksJ5_add_3_1 23 rfl rfl)
theorem dJ5_add_3_46 : decode cJ5_add_3 46 = .ok (.iload_n 3, 1) := dk_29 (dk_at dksJ5_add_3_2 0 rfl rfl)
theorem dJ5_add_3_47 : decode cJ5_add_3 47 = .ok (.iload_n 1, 1) := dk_27 (dk_at dksJ5_add_3_2 1 rfl rfl)
theorem dJ5_add_3_48 : decode cJ5_add_3 48 = .ok (.isub, 1) := dk_100 (dk_at dksJ5_add_3_2 2 rfl rfl)
theorem dJ5_add_3_49 : decode cJ5_add_3 49 = .ok (.invokestatic 112, 3) := dk_184 0 112 (dk_at dksJ5_add_3_2 3 rfl rfl)
theorem dJ5_add_3_52 : decode cJ5_add_3 52 = .ok (.aload 4, 2) := dk_25 4 (dk_at dksJ5_add_3_2 6 rfl rfl)
theorem dJ5_add_3_54 : decode cJ5_add_3 54 = .ok (.iload_n 1, 1) := dk_27 (dk_at dksJ5_add_3_2 8 rfl rfl)
theorem dJ5_add_3_55 : decode cJ5_add_3 55 = .ok (.aload_n 2, 1) := dk_44 (dk_at dksJ5_add_3_2 9 rfl rfl)
theorem dJ5_add_3_56 : decode cJ5_add_3 56 = .ok (.aastore, 1) := dk_83 (dk_at dksJ5_add_3_2 10 rfl rfl)
theorem dJ5_add_3_57 : decode cJ5_add_3 57 = .ok (.aload_n 0, 1) := dk_42 (dk_at dksJ5_add_3_2 11 rfl rfl)
theorem dJ5_add_3_58 : decode cJ5_add_3 58 = .ok (.iload_n 3, 1) := dk_29 (dk_at dksJ5_add_3_2 12 rfl rfl)
theorem dJ5_add_3_59 : decode cJ5_add_3 59 = .ok (.iconst 1, 1) := dk_4 (dk_at dksJ5_add_3_2 13 rfl rfl)
theorem dJ5_add_3_60 : decode cJ5_add_3 60 = .ok (.iadd, 1) := dk_96 (dk_at dksJ5_add_3_2 14 rfl rfl)
theorem dJ5_add_3_61 : decode cJ5_add_3 61 = .ok (.putfield 48, 3) := dk_181 0 48 (dk_at dksJ5_add_3_2 15 rfl rfl)
theorem dJ5_add_3_64 : decode cJ5_add_3 64 = .ok (.return_, 1) := dk_177 (dk_at dksJ5_add_3_2 18 rfl rfl)
abbrev cJ5_rangeCheckForAdd : ByteArray := prog_53_method_45_code
def yJ5_rangeCheckForAdd : MethodName := ⟨RJ5, "rangeCheckForAdd", "(I)V"⟩
def dkwJ5_rangeCheckForAdd_1 : List UInt8 := [191, 177]
abbrev dktJ5_rangeCheckForAdd_1 : List UInt8 := dkwJ5_rangeCheckForAdd_1 ++ []
def dkwJ5_rangeCheckForAdd_0 : List UInt8 := [27, 42, 180, 0, 48, 163, 0, 7, 27, 156, 0, 16, 187, 0, 187, 89, 42, 27, 182, 0, 198, 183, 0, 193]
abbrev dktJ5_rangeCheckForAdd_0 : List UInt8 := dkwJ5_rangeCheckForAdd_0 ++ dktJ5_rangeCheckForAdd_1
theorem dksJ5_rangeCheckForAdd_0 : cJ5_rangeCheckForAdd.data.toList.drop 0 = dktJ5_rangeCheckForAdd_0 := by decide +kernel
theorem dksJ5_rangeCheckForAdd_1 : cJ5_rangeCheckForAdd.data.toList.drop 24 = dktJ5_rangeCheckForAdd_1 := dk_seg dksJ5_rangeCheckForAdd_0 24 rfl rfl
theorem dJ5_rangeCheckForAdd_0 : decode cJ5_rangeCheckForAdd 0 = .ok (.iload_n 1, 1) := dk_27 (dk_at dksJ5_rangeCheckForAdd_0 0 rfl rfl)
theorem dJ5_rangeCheckForAdd_1 : decode cJ5_rangeCheckForAdd 1 = .ok (.aload_n 0, 1) := dk_42 (dk_at dksJ5_rangeCheckForAdd_0 1 rfl rfl)
theorem dJ5_rangeCheckForAdd_2 : decode cJ5_rangeCheckForAdd 2 = .ok (.getfield 48, 3) := dk_180 0 48 (dk_at dksJ5_rangeCheckForAdd_0 2 rfl rfl)
theorem dJ5_rangeCheckForAdd_5 : decode cJ5_rangeCheckForAdd 5 = .ok (.if_icmp .gt 7, 3) := dk_163 0 7 (dk_at dksJ5_rangeCheckForAdd_0 5 rfl rfl)
theorem dJ5_rangeCheckForAdd_8 : decode cJ5_rangeCheckForAdd 8 = .ok (.iload_n 1, 1) := dk_27 (dk_at dksJ5_rangeCheckForAdd_0 8 rfl rfl)
theorem dJ5_rangeCheckForAdd_9 : decode cJ5_rangeCheckForAdd 9 = .ok (.ifCond .ge 16, 3) := dk_156 0 16 (dk_at dksJ5_rangeCheckForAdd_0 9 rfl rfl)
theorem dJ5_rangeCheckForAdd_12 : decode cJ5_rangeCheckForAdd 12 = .ok (.new 187, 3) := dk_187 0 187 (dk_at dksJ5_rangeCheckForAdd_0 12 rfl rfl)
theorem dJ5_rangeCheckForAdd_15 : decode cJ5_rangeCheckForAdd 15 = .ok (.dup, 1) := dk_89 (dk_at dksJ5_rangeCheckForAdd_0 15 rfl rfl)
theorem dJ5_rangeCheckForAdd_16 : decode cJ5_rangeCheckForAdd 16 = .ok (.aload_n 0, 1) := dk_42 (dk_at dksJ5_rangeCheckForAdd_0 16 rfl rfl)
theorem dJ5_rangeCheckForAdd_17 : decode cJ5_rangeCheckForAdd 17 = .ok (.iload_n 1, 1) := dk_27 (dk_at dksJ5_rangeCheckForAdd_0 17 rfl rfl)
theorem dJ5_rangeCheckForAdd_18 : decode cJ5_rangeCheckForAdd 18 = .ok (.invokevirtual 198, 3) := dk_182 0 198 (dk_at dksJ5_rangeCheckForAdd_0 18 rfl rfl)
theorem dJ5_rangeCheckForAdd_21 : decode cJ5_rangeCheckForAdd 21 = .ok (.invokespecial 193, 3) := dk_183 0 193 (dk_at dksJ5_rangeCheckForAdd_0 21 rfl rfl)
theorem dJ5_rangeCheckForAdd_24 : decode cJ5_rangeCheckForAdd 24 = .ok (.athrow, 1) := dk_191 (dk_at dksJ5_rangeCheckForAdd_1 0 rfl rfl)
theorem dJ5_rangeCheckForAdd_25 : decode cJ5_rangeCheckForAdd 25 = .ok (.return_, 1) := dk_177 (dk_at dksJ5_rangeCheckForAdd_1 1 rfl rfl)
abbrev cJ5_init_2 : ByteArray := prog_53_method_1_code
def yJ5_init_2 : MethodName := ⟨RJ5, "<init>", "(I)V"⟩
def dkwJ5_init_2_2 : List UInt8 := [182, 0, 25, 27, 182, 0, 29, 182, 0, 32, 183, 0, 36, 191, 177]
abbrev dktJ5_init_2_2 : List UInt8 := dkwJ5_init_2_2 ++ []
def dkwJ5_init_2_1 : List UInt8 := [178, 0, 15, 181, 0, 9, 167, 0, 30, 187, 0, 18, 89, 187, 0, 20, 89, 183, 0, 22, 18, 23]
abbrev dktJ5_init_2_1 : List UInt8 := dkwJ5_init_2_1 ++ dktJ5_init_2_2
def dkwJ5_init_2_0 : List UInt8 := [42, 183, 0, 1, 27, 158, 0, 14, 42, 27, 189, 0, 7, 181, 0, 9, 167, 0, 44, 27, 154, 0, 13, 42]
abbrev dktJ5_init_2_0 : List UInt8 := dkwJ5_init_2_0 ++ dktJ5_init_2_1
theorem dksJ5_init_2_0 : cJ5_init_2.data.toList.drop 0 = dktJ5_init_2_0 := by decide +kernel
theorem dksJ5_init_2_1 : cJ5_init_2.data.toList.drop 24 = dktJ5_init_2_1 := dk_seg dksJ5_init_2_0 24 rfl rfl
theorem dksJ5_init_2_2 : cJ5_init_2.data.toList.drop 46 = dktJ5_init_2_2 := dk_seg dksJ5_init_2_1 22 rfl rfl
theorem dJ5_init_2_0 : decode cJ5_init_2 0 = .ok (.aload_n 0, 1) := dk_42 (dk_at dksJ5_init_2_0 0 rfl rfl)
theorem dJ5_init_2_1 : decode cJ5_init_2 1 = .ok (.invokespecial 1, 3) := dk_183 0 1 (dk_at dksJ5_init_2_0 1 rfl rfl)
theorem dJ5_init_2_4 : decode cJ5_init_2 4 = .ok (.iload_n 1, 1) := dk_27 (dk_at dksJ5_init_2_0 4 rfl rfl)
theorem dJ5_init_2_5 : decode cJ5_init_2 5 = .ok (.ifCond .le 14, 3) := dk_158 0 14 (dk_at dksJ5_init_2_0 5 rfl rfl)
theorem dJ5_init_2_8 : decode cJ5_init_2 8 = .ok (.aload_n 0, 1) := dk_42 (dk_at dksJ5_init_2_0 8 rfl rfl)
theorem dJ5_init_2_9 : decode cJ5_init_2 9 = .ok (.iload_n 1, 1) := dk_27 (dk_at dksJ5_init_2_0 9 rfl rfl)
theorem dJ5_init_2_10 : decode cJ5_init_2 10 = .ok (.anewarray 7, 3) := dk_189 0 7 (dk_at dksJ5_init_2_0 10 rfl rfl)
theorem dJ5_init_2_13 : decode cJ5_init_2 13 = .ok (.putfield 9, 3) := dk_181 0 9 (dk_at dksJ5_init_2_0 13 rfl rfl)
theorem dJ5_init_2_16 : decode cJ5_init_2 16 = .ok (.goto 44, 3) := dk_167 0 44 (dk_at dksJ5_init_2_0 16 rfl rfl)
theorem dJ5_init_2_19 : decode cJ5_init_2 19 = .ok (.iload_n 1, 1) := dk_27 (dk_at dksJ5_init_2_0 19 rfl rfl)
theorem dJ5_init_2_20 : decode cJ5_init_2 20 = .ok (.ifCond .ne 13, 3) := dk_154 0 13 (dk_at dksJ5_init_2_0 20 rfl rfl)
theorem dJ5_init_2_23 : decode cJ5_init_2 23 = .ok (.aload_n 0, 1) := dk_42 (dk_at dksJ5_init_2_0 23 rfl rfl)
theorem dJ5_init_2_24 : decode cJ5_init_2 24 = .ok (.getstatic 15, 3) := dk_178 0 15 (dk_at dksJ5_init_2_1 0 rfl rfl)
theorem dJ5_init_2_27 : decode cJ5_init_2 27 = .ok (.putfield 9, 3) := dk_181 0 9 (dk_at dksJ5_init_2_1 3 rfl rfl)
theorem dJ5_init_2_30 : decode cJ5_init_2 30 = .ok (.goto 30, 3) := dk_167 0 30 (dk_at dksJ5_init_2_1 6 rfl rfl)
theorem dJ5_init_2_33 : decode cJ5_init_2 33 = .ok (.new 18, 3) := dk_187 0 18 (dk_at dksJ5_init_2_1 9 rfl rfl)
theorem dJ5_init_2_36 : decode cJ5_init_2 36 = .ok (.dup, 1) := dk_89 (dk_at dksJ5_init_2_1 12 rfl rfl)
theorem dJ5_init_2_37 : decode cJ5_init_2 37 = .ok (.new 20, 3) := dk_187 0 20 (dk_at dksJ5_init_2_1 13 rfl rfl)
theorem dJ5_init_2_40 : decode cJ5_init_2 40 = .ok (.dup, 1) := dk_89 (dk_at dksJ5_init_2_1 16 rfl rfl)
theorem dJ5_init_2_41 : decode cJ5_init_2 41 = .ok (.invokespecial 22, 3) := dk_183 0 22 (dk_at dksJ5_init_2_1 17 rfl rfl)
theorem dJ5_init_2_44 : decode cJ5_init_2 44 = .ok (.ldc 23, 2) := dk_18 23 (dk_at dksJ5_init_2_1 20 rfl rfl)
theorem dJ5_init_2_46 : decode cJ5_init_2 46 = .ok (.invokevirtual 25, 3) := dk_182 0 25 (dk_at dksJ5_init_2_2 0 rfl rfl)
theorem dJ5_init_2_49 : decode cJ5_init_2 49 = .ok (.iload_n 1, 1) := dk_27 (dk_at dksJ5_init_2_2 3 rfl rfl)
theorem dJ5_init_2_50 : decode cJ5_init_2 50 = .ok (.invokevirtual 29, 3) := dk_182 0 29 (dk_at dksJ5_init_2_2 4 rfl rfl)
theorem dJ5_init_2_53 : decode cJ5_init_2 53 = .ok (.invokevirtual 32, 3) := dk_182 0 32 (dk_at dksJ5_init_2_2 7 rfl rfl)
theorem dJ5_init_2_56 : decode cJ5_init_2 56 = .ok (.invokespecial 36, 3) := dk_183 0 36 (dk_at dksJ5_init_2_2 10 rfl rfl)
theorem dJ5_init_2_59 : decode cJ5_init_2 59 = .ok (.athrow, 1) := dk_191 (dk_at dksJ5_init_2_2 13 rfl rfl)
theorem dJ5_init_2_60 : decode cJ5_init_2 60 = .ok (.return_, 1) := dk_177 (dk_at dksJ5_init_2_2 14 rfl rfl)
abbrev cJ5_isEmpty : ByteArray := prog_53_method_9_code
def yJ5_isEmpty : MethodName := ⟨RJ5, "isEmpty", "()Z"⟩
def dkwJ5_isEmpty_0 : List UInt8 := [42, 180, 0, 48, 154, 0, 7, 4, 167, 0, 4, 3, 172]
abbrev dktJ5_isEmpty_0 : List UInt8 := dkwJ5_isEmpty_0 ++ []
theorem dksJ5_isEmpty_0 : cJ5_isEmpty.data.toList.drop 0 = dktJ5_isEmpty_0 := by decide +kernel
theorem dJ5_isEmpty_0 : decode cJ5_isEmpty 0 = .ok (.aload_n 0, 1) := dk_42 (dk_at dksJ5_isEmpty_0 0 rfl rfl)
theorem dJ5_isEmpty_1 : decode cJ5_isEmpty 1 = .ok (.getfield 48, 3) := dk_180 0 48 (dk_at dksJ5_isEmpty_0 1 rfl rfl)
theorem dJ5_isEmpty_4 : decode cJ5_isEmpty 4 = .ok (.ifCond .ne 7, 3) := dk_154 0 7 (dk_at dksJ5_isEmpty_0 4 rfl rfl)
theorem dJ5_isEmpty_7 : decode cJ5_isEmpty 7 = .ok (.iconst 1, 1) := dk_4 (dk_at dksJ5_isEmpty_0 7 rfl rfl)
theorem dJ5_isEmpty_8 : decode cJ5_isEmpty 8 = .ok (.goto 4, 3) := dk_167 0 4 (dk_at dksJ5_isEmpty_0 8 rfl rfl)
theorem dJ5_isEmpty_11 : decode cJ5_isEmpty 11 = .ok (.iconst 0, 1) := dk_3 (dk_at dksJ5_isEmpty_0 11 rfl rfl)
theorem dJ5_isEmpty_12 : decode cJ5_isEmpty 12 = .ok (.ireturn, 1) := dk_172 (dk_at dksJ5_isEmpty_0 12 rfl rfl)
theorem q101 : (Jvm.Cond.initialized "java/util/ArrayList") ∈ lw_all := lw_g (lw_at lw_m1 9 rfl) rfl
theorem q230 : (Jvm.Cond.instantiable "java/util/ArrayList" (3 : Nat)) ∈ lw_all := lw_g (lw_at lw_m1 138 rfl) rfl
theorem q232 : (Jvm.Cond.instanceMethod ({ cls := "java/util/ArrayList", name := "<init>", desc := "()V" } : Jvm.MethodName)) ∈ lw_all := lw_g (lw_at lw_m1 140 rfl) rfl
theorem q233 : (Jvm.Cond.code ({ cls := "java/util/ArrayList", name := "<init>", desc := "()V" } : Jvm.MethodName) prog_53_method_2_code (1 : Nat) (Option.none : Option Jvm.ClassFile.FieldType)) ∈ lw_all := lw_g (lw_at lw_m1 141 rfl) rfl
theorem q234 : (Jvm.Cond.methodLink "java/util/ArrayList" (1 : Nat) ({ cls := "java/util/AbstractList", name := "<init>", desc := "()V" } : Jvm.MethodName)) ∈ lw_all := lw_g (lw_at lw_m1 142 rfl) rfl
theorem q241 : (Jvm.Cond.fieldLink "java/util/ArrayList" (39 : Nat) "java/util/ArrayList" "DEFAULTCAPACITY_EMPTY_ELEMENTDATA" "[Ljava/lang/Object;") ∈ lw_all := lw_g (lw_at lw_m1 149 rfl) rfl
theorem q242 : (Jvm.Cond.laysStatic "java/util/ArrayList" "DEFAULTCAPACITY_EMPTY_ELEMENTDATA" "[Ljava/lang/Object;") ∈ lw_tbl := lw_at lw_m1 150 rfl
theorem q243 : (Jvm.Cond.fieldLink "java/util/ArrayList" (9 : Nat) "java/util/ArrayList" "elementData" "[Ljava/lang/Object;") ∈ lw_all := lw_g (lw_at lw_m1 151 rfl) rfl
theorem q244 : (Jvm.Cond.fieldLink "java/util/ArrayList" (48 : Nat) "java/util/ArrayList" "size" "I") ∈ lw_all := lw_g (lw_at lw_m1 152 rfl) rfl
theorem q246 : (Jvm.Cond.fieldLink "java/util/ArrayList" (63 : Nat) "java/util/ArrayList" "modCount" "I") ∈ lw_all := lw_g (lw_at lw_m1 154 rfl) rfl
theorem q247 : (Jvm.Cond.sameField "java/util/ArrayList" "java/util/AbstractList" "modCount" "I") ∈ lw_all := lw_g (lw_at lw_m1 155 rfl) rfl
theorem q248 : (Jvm.Cond.lays "java/util/ArrayList" "java/util/ArrayList" "elementData" "[Ljava/lang/Object;") ∈ lw_all := lw_g (lw_at lw_m1 156 rfl) rfl
theorem q249 : (Jvm.Cond.soleField "java/util/ArrayList" "elementData") ∈ lw_all := lw_g (lw_at lw_m1 157 rfl) rfl
theorem q250 : (Jvm.Cond.lays "java/util/ArrayList" "java/util/ArrayList" "size" "I") ∈ lw_all := lw_g (lw_at lw_m1 158 rfl) rfl
theorem q251 : (Jvm.Cond.soleField "java/util/ArrayList" "size") ∈ lw_all := lw_g (lw_at lw_m1 159 rfl) rfl
theorem q252 : (Jvm.Cond.lays "java/util/ArrayList" "java/util/AbstractList" "modCount" "I") ∈ lw_all := lw_g (lw_at lw_m1 160 rfl) rfl
theorem q254 : (Jvm.Cond.superclass "java/util/ArrayList" "java/util/AbstractList") ∈ lw_all := lw_g (lw_at lw_m1 162 rfl) rfl
theorem q358 : (Jvm.Cond.instanceMethod ({ cls := "java/util/ArrayList", name := "size", desc := "()I" } : Jvm.MethodName)) ∈ lw_all := lw_g (lw_at lw_m2 26 rfl) rfl
theorem q359 : (Jvm.Cond.selects "java/util/ArrayList" ({ cls := "java/util/ArrayList", name := "size", desc := "()I" } : Jvm.MethodName) ({ cls := "java/util/ArrayList", name := "size", desc := "()I" } : Jvm.MethodName)) ∈ lw_all := lw_g (lw_at lw_m2 27 rfl) rfl
theorem q360 : (Jvm.Cond.code ({ cls := "java/util/ArrayList", name := "size", desc := "()I" } : Jvm.MethodName) prog_53_method_8_code (1 : Nat) (Option.some Jvm.ClassFile.FieldType.int)) ∈ lw_all := lw_g (lw_at lw_m2 28 rfl) rfl
theorem q389 : (Jvm.Cond.instanceMethod ({ cls := "java/util/ArrayList", name := "add", desc := "(Ljava/lang/Object;)Z" } : Jvm.MethodName)) ∈ lw_all := lw_g (lw_at lw_m2 57 rfl) rfl
theorem q390 : (Jvm.Cond.selects "java/util/ArrayList" ({ cls := "java/util/ArrayList", name := "add", desc := "(Ljava/lang/Object;)Z" } : Jvm.MethodName) ({ cls := "java/util/ArrayList", name := "add", desc := "(Ljava/lang/Object;)Z" } : Jvm.MethodName)) ∈ lw_all := lw_g (lw_at lw_m2 58 rfl) rfl
theorem q391 : (Jvm.Cond.code ({ cls := "java/util/ArrayList", name := "add", desc := "(Ljava/lang/Object;)Z" } : Jvm.MethodName) prog_53_method_25_code (2 : Nat) (Option.some Jvm.ClassFile.FieldType.boolean)) ∈ lw_all := lw_g (lw_at lw_m2 59 rfl) rfl
theorem q392 : (Jvm.Cond.methodLink "java/util/ArrayList" (131 : Nat) ({ cls := "java/util/ArrayList", name := "add", desc := "(Ljava/lang/Object;[Ljava/lang/Object;I)V" } : Jvm.MethodName)) ∈ lw_all := lw_g (lw_at lw_m2 60 rfl) rfl
theorem q393 : (Jvm.Cond.privateMethod ({ cls := "java/util/ArrayList", name := "add", desc := "(Ljava/lang/Object;[Ljava/lang/Object;I)V" } : Jvm.MethodName)) ∈ lw_tbl := lw_at lw_m2 61 rfl
theorem q394 : (Jvm.Cond.instanceMethod ({ cls := "java/util/ArrayList", name := "add", desc := "(Ljava/lang/Object;[Ljava/lang/Object;I)V" } : Jvm.MethodName)) ∈ lw_all := lw_g (lw_at lw_m2 62 rfl) rfl
theorem q395 : (Jvm.Cond.code ({ cls := "java/util/ArrayList", name := "add", desc := "(Ljava/lang/Object;[Ljava/lang/Object;I)V" } : Jvm.MethodName) prog_53_method_24_code (4 : Nat) (Option.none : Option Jvm.ClassFile.FieldType)) ∈ lw_all := lw_g (lw_at lw_m2 63 rfl) rfl
theorem q396 : (Jvm.Cond.methodLink "java/util/ArrayList" (129 : Nat) ({ cls := "java/util/ArrayList", name := "grow", desc := "()[Ljava/lang/Object;" } : Jvm.MethodName)) ∈ lw_all := lw_g (lw_at lw_m2 64 rfl) rfl
theorem q397 : (Jvm.Cond.privateMethod ({ cls := "java/util/ArrayList", name := "grow", desc := "()[Ljava/lang/Object;" } : Jvm.MethodName)) ∈ lw_tbl := lw_at lw_m2 65 rfl
theorem q398 : (Jvm.Cond.instanceMethod ({ cls := "java/util/ArrayList", name := "grow", desc := "()[Ljava/lang/Object;" } : Jvm.MethodName)) ∈ lw_all := lw_g (lw_at lw_m2 66 rfl) rfl
theorem q399 : (Jvm.Cond.code ({ cls := "java/util/ArrayList", name := "grow", desc := "()[Ljava/lang/Object;" } : Jvm.MethodName) prog_53_method_7_code (1 : Nat) (Option.some (Jvm.ClassFile.FieldType.array (Jvm.ClassFile.FieldType.object "java/lang/Object")))) ∈ lw_all := lw_g (lw_at lw_m2 67 rfl) rfl
theorem q400 : (Jvm.Cond.methodLink "java/util/ArrayList" (69 : Nat) ({ cls := "java/util/ArrayList", name := "grow", desc := "(I)[Ljava/lang/Object;" } : Jvm.MethodName)) ∈ lw_all := lw_g (lw_at lw_m2 68 rfl) rfl
theorem q401 : (Jvm.Cond.privateMethod ({ cls := "java/util/ArrayList", name := "grow", desc := "(I)[Ljava/lang/Object;" } : Jvm.MethodName)) ∈ lw_tbl := lw_at lw_m2 69 rfl
theorem q402 : (Jvm.Cond.instanceMethod ({ cls := "java/util/ArrayList", name := "grow", desc := "(I)[Ljava/lang/Object;" } : Jvm.MethodName)) ∈ lw_all := lw_g (lw_at lw_m2 70 rfl) rfl
theorem q403 : (Jvm.Cond.code ({ cls := "java/util/ArrayList", name := "grow", desc := "(I)[Ljava/lang/Object;" } : Jvm.MethodName) prog_53_method_6_code (4 : Nat) (Option.some (Jvm.ClassFile.FieldType.array (Jvm.ClassFile.FieldType.object "java/lang/Object")))) ∈ lw_all := lw_g (lw_at lw_m2 71 rfl) rfl
theorem q404 : (Jvm.Cond.methodLink "java/util/ArrayList" (73 : Nat) ({ cls := "jdk/internal/util/ArraysSupport", name := "newLength", desc := "(III)I" } : Jvm.MethodName)) ∈ lw_all := lw_g (lw_at lw_m2 72 rfl) rfl
theorem q414 : (Jvm.Cond.methodLink "java/util/ArrayList" (66 : Nat) ({ cls := "java/util/Arrays", name := "copyOf", desc := "([Ljava/lang/Object;I)[Ljava/lang/Object;" } : Jvm.MethodName)) ∈ lw_all := lw_g (lw_at lw_m2 82 rfl) rfl
theorem q446 : (Jvm.Cond.selects "java/util/ArrayList" ({ cls := "java/lang/Object", name := "getClass", desc := "()Ljava/lang/Class;" } : Jvm.MethodName) ({ cls := "java/lang/Object", name := "getClass", desc := "()Ljava/lang/Class;" } : Jvm.MethodName)) ∈ lw_all := lw_g (lw_at lw_m2 114 rfl) rfl
theorem q464 : (Jvm.Cond.methodLink "java/util/ArrayList" (79 : Nat) ({ cls := "java/lang/Math", name := "max", desc := "(II)I" } : Jvm.MethodName)) ∈ lw_all := lw_g (lw_at lw_m2 132 rfl) rfl
theorem q465 : (Jvm.Cond.classLink "java/util/ArrayList" (7 : Nat) "java/lang/Object") ∈ lw_all := lw_g (lw_at lw_m2 133 rfl) rfl
theorem q1104 : (Jvm.Cond.instanceMethod ({ cls := "java/util/ArrayList", name := "clear", desc := "()V" } : Jvm.MethodName)) ∈ lw_all := lw_g (lw_at lw_m5 52 rfl) rfl
theorem q1105 : (Jvm.Cond.selects "java/util/ArrayList" ({ cls := "java/util/ArrayList", name := "clear", desc := "()V" } : Jvm.MethodName) ({ cls := "java/util/ArrayList", name := "clear", desc := "()V" } : Jvm.MethodName)) ∈ lw_all := lw_g (lw_at lw_m5 53 rfl) rfl
theorem q1106 : (Jvm.Cond.code ({ cls := "java/util/ArrayList", name := "clear", desc := "()V" } : Jvm.MethodName) prog_53_method_40_code (4 : Nat) (Option.none : Option Jvm.ClassFile.FieldType)) ∈ lw_all := lw_g (lw_at lw_m5 54 rfl) rfl
theorem q1468 : (Jvm.Cond.instanceMethod ({ cls := "java/util/ArrayList", name := "get", desc := "(I)Ljava/lang/Object;" } : Jvm.MethodName)) ∈ lw_all := lw_g (lw_at lw_m6 176 rfl) rfl
theorem q1469 : (Jvm.Cond.selects "java/util/ArrayList" ({ cls := "java/util/ArrayList", name := "get", desc := "(I)Ljava/lang/Object;" } : Jvm.MethodName) ({ cls := "java/util/ArrayList", name := "get", desc := "(I)Ljava/lang/Object;" } : Jvm.MethodName)) ∈ lw_all := lw_g (lw_at lw_m6 177 rfl) rfl
theorem q1470 : (Jvm.Cond.code ({ cls := "java/util/ArrayList", name := "get", desc := "(I)Ljava/lang/Object;" } : Jvm.MethodName) prog_53_method_20_code (2 : Nat) (Option.some (Jvm.ClassFile.FieldType.object "java/lang/Object"))) ∈ lw_all := lw_g (lw_at lw_m6 178 rfl) rfl
theorem q1471 : (Jvm.Cond.methodLink "java/util/ArrayList" (118 : Nat) ({ cls := "java/util/Objects", name := "checkIndex", desc := "(II)I" } : Jvm.MethodName)) ∈ lw_all := lw_g (lw_at lw_m6 179 rfl) rfl
theorem q1475 : (Jvm.Cond.methodLink "java/util/ArrayList" (123 : Nat) ({ cls := "java/util/ArrayList", name := "elementData", desc := "(I)Ljava/lang/Object;" } : Jvm.MethodName)) ∈ lw_all := lw_g (lw_at lw_m6 183 rfl) rfl
theorem q1476 : (Jvm.Cond.instanceMethod ({ cls := "java/util/ArrayList", name := "elementData", desc := "(I)Ljava/lang/Object;" } : Jvm.MethodName)) ∈ lw_all := lw_g (lw_at lw_m6 184 rfl) rfl
theorem q1477 : (Jvm.Cond.selects "java/util/ArrayList" ({ cls := "java/util/ArrayList", name := "elementData", desc := "(I)Ljava/lang/Object;" } : Jvm.MethodName) ({ cls := "java/util/ArrayList", name := "elementData", desc := "(I)Ljava/lang/Object;" } : Jvm.MethodName)) ∈ lw_all := lw_g (lw_at lw_m6 185 rfl) rfl
theorem q1478 : (Jvm.Cond.code ({ cls := "java/util/ArrayList", name := "elementData", desc := "(I)Ljava/lang/Object;" } : Jvm.MethodName) prog_53_method_18_code (2 : Nat) (Option.some (Jvm.ClassFile.FieldType.object "java/lang/Object"))) ∈ lw_all := lw_g (lw_at lw_m6 186 rfl) rfl
theorem q1484 : (Jvm.Cond.instanceMethod ({ cls := "java/util/ArrayList", name := "add", desc := "(ILjava/lang/Object;)V" } : Jvm.MethodName)) ∈ lw_all := lw_g (lw_at lw_m6 192 rfl) rfl
theorem q1485 : (Jvm.Cond.selects "java/util/ArrayList" ({ cls := "java/util/ArrayList", name := "add", desc := "(ILjava/lang/Object;)V" } : Jvm.MethodName) ({ cls := "java/util/ArrayList", name := "add", desc := "(ILjava/lang/Object;)V" } : Jvm.MethodName)) ∈ lw_all := lw_g (lw_at lw_m6 193 rfl) rfl
theorem q1486 : (Jvm.Cond.code ({ cls := "java/util/ArrayList", name := "add", desc := "(ILjava/lang/Object;)V" } : Jvm.MethodName) prog_53_method_26_code (5 : Nat) (Option.none : Option Jvm.ClassFile.FieldType)) ∈ lw_all := lw_g (lw_at lw_m6 194 rfl) rfl
theorem q1487 : (Jvm.Cond.methodLink "java/util/ArrayList" (135 : Nat) ({ cls := "java/util/ArrayList", name := "rangeCheckForAdd", desc := "(I)V" } : Jvm.MethodName)) ∈ lw_all := lw_g (lw_at lw_m6 195 rfl) rfl
theorem q1488 : (Jvm.Cond.privateMethod ({ cls := "java/util/ArrayList", name := "rangeCheckForAdd", desc := "(I)V" } : Jvm.MethodName)) ∈ lw_tbl := lw_at lw_m6 196 rfl
theorem q1489 : (Jvm.Cond.instanceMethod ({ cls := "java/util/ArrayList", name := "rangeCheckForAdd", desc := "(I)V" } : Jvm.MethodName)) ∈ lw_all := lw_g (lw_at lw_m6 197 rfl) rfl
theorem q1490 : (Jvm.Cond.code ({ cls := "java/util/ArrayList", name := "rangeCheckForAdd", desc := "(I)V" } : Jvm.MethodName) prog_53_method_45_code (2 : Nat) (Option.none : Option Jvm.ClassFile.FieldType)) ∈ lw_all := lw_g (lw_at lw_m6 198 rfl) rfl
theorem q1491 : (Jvm.Cond.methodLink "java/util/ArrayList" (112 : Nat) ({ cls := "java/lang/System", name := "arraycopy", desc := "(Ljava/lang/Object;ILjava/lang/Object;II)V" } : Jvm.MethodName)) ∈ lw_all := lw_g (lw_at lw_m6 199 rfl) rfl
theorem q1508 : (Jvm.Cond.instanceMethod ({ cls := "java/util/ArrayList", name := "<init>", desc := "(I)V" } : Jvm.MethodName)) ∈ lw_all := lw_g (lw_at lw_m6 216 rfl) rfl
theorem q1509 : (Jvm.Cond.code ({ cls := "java/util/ArrayList", name := "<init>", desc := "(I)V" } : Jvm.MethodName) prog_53_method_1_code (2 : Nat) (Option.none : Option Jvm.ClassFile.FieldType)) ∈ lw_all := lw_g (lw_at lw_m6 217 rfl) rfl
theorem q1510 : (Jvm.Cond.fieldLink "java/util/ArrayList" (15 : Nat) "java/util/ArrayList" "EMPTY_ELEMENTDATA" "[Ljava/lang/Object;") ∈ lw_all := lw_g (lw_at lw_m6 218 rfl) rfl
theorem q1511 : (Jvm.Cond.laysStatic "java/util/ArrayList" "EMPTY_ELEMENTDATA" "[Ljava/lang/Object;") ∈ lw_tbl := lw_at lw_m6 219 rfl
theorem q1946 : (Jvm.Cond.instanceMethod ({ cls := "java/util/ArrayList", name := "isEmpty", desc := "()Z" } : Jvm.MethodName)) ∈ lw_all := lw_g (lw_at lw_m8 174 rfl) rfl
theorem q1947 : (Jvm.Cond.selects "java/util/ArrayList" ({ cls := "java/util/ArrayList", name := "isEmpty", desc := "()Z" } : Jvm.MethodName) ({ cls := "java/util/ArrayList", name := "isEmpty", desc := "()Z" } : Jvm.MethodName)) ∈ lw_all := lw_g (lw_at lw_m8 175 rfl) rfl
theorem q1948 : (Jvm.Cond.code ({ cls := "java/util/ArrayList", name := "isEmpty", desc := "()Z" } : Jvm.MethodName) prog_53_method_9_code (1 : Nat) (Option.some Jvm.ClassFile.FieldType.boolean)) ∈ lw_all := lw_g (lw_at lw_m8 176 rfl) rfl
theorem q2938 : (Jvm.Cond.castable "java/util/ArrayList" "java/lang/Object") ∈ lw_tbl := lw_at lw_m12 206 rfl
theorem in_J5 : ∀ w ∈ wsJ50, w ∈ lw_all := lw_in wsJ50 [252, 248, 250] (by decide +kernel) (by decide +kernel)

/-! java/util/AbstractMap -/
set_option maxRecDepth 100000
def RJ6 : String := "java/util/AbstractMap"
abbrev cJ6_init : ByteArray := prog_52_method_1_code
def yJ6_init : MethodName := ⟨RJ6, "<init>", "()V"⟩
theorem dJ6_init_0 : decode cJ6_init 0 = .ok (.aload_n 0, 1) := by decide +kernel
theorem dJ6_init_1 : decode cJ6_init 1 = .ok (.invokespecial 1, 3) := by decide +kernel
theorem dJ6_init_4 : decode cJ6_init 4 = .ok (.return_, 1) := by decide +kernel
theorem q103 : (Jvm.Cond.initialized "java/util/AbstractMap") ∈ lw_all := lw_g (lw_at lw_m1 11 rfl) rfl
theorem q324 : (Jvm.Cond.instanceMethod ({ cls := "java/util/AbstractMap", name := "<init>", desc := "()V" } : Jvm.MethodName)) ∈ lw_all := lw_g (lw_at lw_m1 232 rfl) rfl
theorem q325 : (Jvm.Cond.code ({ cls := "java/util/AbstractMap", name := "<init>", desc := "()V" } : Jvm.MethodName) prog_52_method_1_code (1 : Nat) (Option.none : Option Jvm.ClassFile.FieldType)) ∈ lw_all := lw_g (lw_at lw_m1 233 rfl) rfl
theorem q326 : (Jvm.Cond.methodLink "java/util/AbstractMap" (1 : Nat) ({ cls := "java/lang/Object", name := "<init>", desc := "()V" } : Jvm.MethodName)) ∈ lw_all := lw_g (lw_at lw_m1 234 rfl) rfl
theorem q346 : (Jvm.Cond.soleField "java/util/AbstractMap" "keySet") ∈ lw_all := lw_g (lw_at lw_m2 14 rfl) rfl
theorem q348 : (Jvm.Cond.soleField "java/util/AbstractMap" "values") ∈ lw_all := lw_g (lw_at lw_m2 16 rfl) rfl

/-! java/util/HashMap -/
set_option maxRecDepth 100000
def RJ7 : String := "java/util/HashMap"
def TJ7 : u_T := fun k => match k with
  | 0 => ("java/util/AbstractMap", "keySet", "Ljava/util/Set;", false)
  | 1 => ("java/util/AbstractMap", "values", "Ljava/util/Collection;", false)
  | 2 => ("java/util/HashMap", "table", "[Ljava/util/HashMap$Node;", false)
  | 3 => ("java/util/HashMap", "entrySet", "Ljava/util/Set;", false)
  | 4 => ("java/util/HashMap", "size", "I", false)
  | 5 => ("java/util/HashMap", "modCount", "I", false)
  | 6 => ("java/util/HashMap", "threshold", "I", false)
  | _ => ("java/util/HashMap", "loadFactor", "F", true)
def tyJ7 : Nat → FieldType := fun k => match k with
  | 0 => .object "java/util/Set"
  | 1 => .object "java/util/Collection"
  | 2 => .array (.object "java/util/HashMap$Node")
  | 3 => .object "java/util/Set"
  | 4 => .int
  | 5 => .int
  | 6 => .int
  | _ => .float
abbrev wsJ70 : List Cond := u_ws RJ7 TJ7 8
theorem nmJ7 : ∀ a, a < 8 → ∀ b, b < 8 → a ≠ b → (TJ7 a).2.1 ≠ (TJ7 b).2.1 := by decide +kernel
theorem tyJ7_ok : ∀ k, k < 8 → parseFieldDescriptor (TJ7 k).2.2.1 = some (tyJ7 k) := by decide +kernel
abbrev cJ7_init : ByteArray := prog_56_method_7_code
def yJ7_init : MethodName := ⟨RJ7, "<init>", "()V"⟩
def dkwJ7_init_0 : List UInt8 := [42, 183, 0, 43, 42, 18, 92, 181, 0, 81, 177]
abbrev dktJ7_init_0 : List UInt8 := dkwJ7_init_0 ++ []
theorem dksJ7_init_0 : cJ7_init.data.toList.drop 0 = dktJ7_init_0 := by decide +kernel
theorem dJ7_init_0 : decode cJ7_init 0 = .ok (.aload_n 0, 1) := dk_42 (dk_at dksJ7_init_0 0 rfl rfl)
theorem dJ7_init_1 : decode cJ7_init 1 = .ok (.invokespecial 43, 3) := dk_183 0 43 (dk_at dksJ7_init_0 1 rfl rfl)
theorem dJ7_init_4 : decode cJ7_init 4 = .ok (.aload_n 0, 1) := dk_42 (dk_at dksJ7_init_0 4 rfl rfl)
theorem dJ7_init_5 : decode cJ7_init 5 = .ok (.ldc 92, 2) := dk_18 92 (dk_at dksJ7_init_0 5 rfl rfl)
theorem dJ7_init_7 : decode cJ7_init 7 = .ok (.putfield 81, 3) := dk_181 0 81 (dk_at dksJ7_init_0 7 rfl rfl)
theorem dJ7_init_10 : decode cJ7_init 10 = .ok (.return_, 1) := dk_177 (dk_at dksJ7_init_0 10 rfl rfl)
abbrev cJ7_containsKey : ByteArray := prog_56_method_14_code
def yJ7_containsKey : MethodName := ⟨RJ7, "containsKey", "(Ljava/lang/Object;)Z"⟩
def dkwJ7_containsKey_0 : List UInt8 := [42, 43, 182, 0, 158, 198, 0, 7, 4, 167, 0, 4, 3, 172]
abbrev dktJ7_containsKey_0 : List UInt8 := dkwJ7_containsKey_0 ++ []
theorem dksJ7_containsKey_0 : cJ7_containsKey.data.toList.drop 0 = dktJ7_containsKey_0 := by decide +kernel
theorem dJ7_containsKey_0 : decode cJ7_containsKey 0 = .ok (.aload_n 0, 1) := dk_42 (dk_at dksJ7_containsKey_0 0 rfl rfl)
theorem dJ7_containsKey_1 : decode cJ7_containsKey 1 = .ok (.aload_n 1, 1) := dk_43 (dk_at dksJ7_containsKey_0 1 rfl rfl)
theorem dJ7_containsKey_2 : decode cJ7_containsKey 2 = .ok (.invokevirtual 158, 3) := dk_182 0 158 (dk_at dksJ7_containsKey_0 2 rfl rfl)
theorem dJ7_containsKey_5 : decode cJ7_containsKey 5 = .ok (.ifnull 7, 3) := dk_198 0 7 (dk_at dksJ7_containsKey_0 5 rfl rfl)
theorem dJ7_containsKey_8 : decode cJ7_containsKey 8 = .ok (.iconst 1, 1) := dk_4 (dk_at dksJ7_containsKey_0 8 rfl rfl)
theorem dJ7_containsKey_9 : decode cJ7_containsKey 9 = .ok (.goto 4, 3) := dk_167 0 4 (dk_at dksJ7_containsKey_0 9 rfl rfl)
theorem dJ7_containsKey_12 : decode cJ7_containsKey 12 = .ok (.iconst 0, 1) := dk_3 (dk_at dksJ7_containsKey_0 12 rfl rfl)
theorem dJ7_containsKey_13 : decode cJ7_containsKey 13 = .ok (.ireturn, 1) := dk_172 (dk_at dksJ7_containsKey_0 13 rfl rfl)
abbrev cJ7_getNode : ByteArray := prog_56_method_13_code
def yJ7_getNode : MethodName := ⟨RJ7, "getNode", "(Ljava/lang/Object;)Ljava/util/HashMap$Node;"⟩
def dkwJ7_getNode_6 : List UInt8 := [89, 58, 4, 199, 255, 210, 1, 176]
abbrev dktJ7_getNode_6 : List UInt8 := dkwJ7_getNode_6 ++ []
def dkwJ7_getNode_5 : List UInt8 := [165, 0, 16, 43, 198, 0, 15, 43, 25, 7, 182, 0, 173, 153, 0, 6, 25, 4, 176, 25, 4, 180, 0, 177]
abbrev dktJ7_getNode_5 : List UInt8 := dkwJ7_getNode_5 ++ dktJ7_getNode_6
def dkwJ7_getNode_4 : List UInt8 := [43, 182, 0, 182, 176, 25, 4, 180, 0, 168, 21, 6, 160, 0, 31, 25, 4, 180, 0, 170, 89, 58, 7, 43]
abbrev dktJ7_getNode_4 : List UInt8 := dkwJ7_getNode_4 ++ dktJ7_getNode_5
def dkwJ7_getNode_3 : List UInt8 := [176, 45, 180, 0, 177, 89, 58, 4, 198, 0, 70, 45, 193, 0, 180, 153, 0, 14, 45, 192, 0, 180, 21, 6]
abbrev dktJ7_getNode_3 : List UInt8 := dkwJ7_getNode_3 ++ dktJ7_getNode_4
def dkwJ7_getNode_2 : List UInt8 := [180, 0, 170, 89, 58, 7, 43, 165, 0, 16, 43, 198, 0, 14, 43, 25, 7, 182, 0, 173, 153, 0, 5, 45]
abbrev dktJ7_getNode_2 : List UInt8 := dkwJ7_getNode_2 ++ dktJ7_getNode_3
def dkwJ7_getNode_1 : List UInt8 := [184, 0, 149, 89, 54, 6, 126, 50, 89, 78, 198, 0, 115, 45, 180, 0, 168, 21, 6, 160, 0, 29, 45]
abbrev dktJ7_getNode_1 : List UInt8 := dkwJ7_getNode_1 ++ dktJ7_getNode_2
def dkwJ7_getNode_0 : List UInt8 := [42, 180, 0, 105, 89, 77, 198, 0, 142, 44, 190, 89, 54, 5, 158, 0, 134, 44, 21, 5, 4, 100, 43]
abbrev dktJ7_getNode_0 : List UInt8 := dkwJ7_getNode_0 ++ dktJ7_getNode_1
theorem dksJ7_getNode_0 : cJ7_getNode.data.toList.drop 0 = dktJ7_getNode_0 := by decide +kernel
theorem dksJ7_getNode_1 : cJ7_getNode.data.toList.drop 23 = dktJ7_getNode_1 := dk_seg dksJ7_getNode_0 23 rfl rfl
theorem dksJ7_getNode_2 : cJ7_getNode.data.toList.drop 46 = dktJ7_getNode_2 := dk_seg dksJ7_getNode_1 23 rfl rfl
theorem dksJ7_getNode_3 : cJ7_getNode.data.toList.drop 70 = dktJ7_getNode_3 := dk_seg dksJ7_getNode_2 24 rfl rfl
theorem dksJ7_getNode_4 : cJ7_getNode.data.toList.drop 94 = dktJ7_getNode_4 := dk_seg dksJ7_getNode_3 24 rfl rfl
theorem dksJ7_getNode_5 : cJ7_getNode.data.toList.drop 118 = dktJ7_getNode_5 := dk_seg dksJ7_getNode_4 24 rfl rfl
theorem dksJ7_getNode_6 : cJ7_getNode.data.toList.drop 142 = dktJ7_getNode_6 := dk_seg dksJ7_getNode_5 24 rfl rfl
theorem dJ7_getNode_0 : decode cJ7_getNode 0 = .ok (.aload_n 0, 1) := dk_42 (dk_at dksJ7_getNode_0 0 rfl rfl)
theorem dJ7_getNode_1 : decode cJ7_getNode 1 = .ok (.getfield 105, 3) := dk_180 0 105 (dk_at dksJ7_getNode_0 1 rfl rfl)
theorem dJ7_getNode_4 : decode cJ7_getNode 4 = .ok (.dup, 1) := dk_89 (dk_at dksJ7_getNode_0 4 rfl rfl)
theorem dJ7_getNode_5 : decode cJ7_getNode 5 = .ok (.astore_n 2, 1) := dk_77 (dk_at dksJ7_getNode_0 5 rfl rfl)
theorem dJ7_getNode_6 : decode cJ7_getNode 6 = .ok (.ifnull 142, 3) := dk_198 0 142 (dk_at dksJ7_getNode_0 6 rfl rfl)
theorem dJ7_getNode_9 : decode cJ7_getNode 9 = .ok (.aload_n 2, 1) := dk_44 (dk_at dksJ7_getNode_0 9 rfl rfl)
theorem dJ7_getNode_10 : decode cJ7_getNode 10 = .ok (.arraylength, 1) := dk_190 (dk_at dksJ7_getNode_0 10 rfl rfl)
theorem dJ7_getNode_11 : decode cJ7_getNode 11 = .ok (.dup, 1) := dk_89 (dk_at dksJ7_getNode_0 11 rfl rfl)
theorem dJ7_getNode_12 : decode cJ7_getNode 12 = .ok (.istore 5, 2) := dk_54 5 (dk_at dksJ7_getNode_0 12 rfl rfl)
theorem dJ7_getNode_14 : decode cJ7_getNode 14 = .ok (.ifCond .le 134, 3) := dk_158 0 134 (dk_at dksJ7_getNode_0 14 rfl rfl)
theorem dJ7_getNode_17 : decode cJ7_getNode 17 = .ok (.aload_n 2, 1) := dk_44 (dk_at dksJ7_getNode_0 17 rfl rfl)
theorem dJ7_getNode_18 : decode cJ7_getNode 18 = .ok (.iload 5, 2) := dk_21 5 (dk_at dksJ7_getNode_0 18 rfl rfl)
theorem dJ7_getNode_20 : decode cJ7_getNode 20 = .ok (.iconst 1, 1) := dk_4 (dk_at dksJ7_getNode_0 20 rfl rfl)
theorem dJ7_getNode_21 : decode cJ7_getNode 21 = .ok (.isub, 1) := dk_100 (dk_at dksJ7_getNode_0 21 rfl rfl)
theorem dJ7_getNode_22 : decode cJ7_getNode 22 = .ok (.aload_n 1, 1) := dk_43 (dk_at dksJ7_getNode_0 22 rfl rfl)
theorem dJ7_getNode_23 : decode cJ7_getNode 23 = .ok (.invokestatic 149, 3) := dk_184 0 149 (dk_at dksJ7_getNode_1 0 rfl rfl)
theorem dJ7_getNode_26 : decode cJ7_getNode 26 = .ok (.dup, 1) := dk_89 (dk_at dksJ7_getNode_1 3 rfl rfl)
theorem dJ7_getNode_27 : decode cJ7_getNode 27 = .ok (.istore 6, 2) := dk_54 6 (dk_at dksJ7_getNode_1 4 rfl rfl)
theorem dJ7_getNode_29 : decode cJ7_getNode 29 = .ok (.iand, 1) := dk_126 (dk_at dksJ7_getNode_1 6 rfl rfl)
theorem dJ7_getNode_30 : decode cJ7_getNode 30 = .ok (.aaload, 1) := dk_50 (dk_at dksJ7_getNode_1 7 rfl rfl)
theorem dJ7_getNode_31 : decode cJ7_getNode 31 = .ok (.dup, 1) := dk_89 (dk_at dksJ7_getNode_1 8 rfl rfl)
theorem dJ7_getNode_32 : decode cJ7_getNode 32 = .ok (.astore_n 3, 1) := dk_78 (dk_at dksJ7_getNode_1 9 rfl rfl)
theorem dJ7_getNode_33 : decode cJ7_getNode 33 = .ok (.ifnull 115, 3) := dk_198 0 115 (dk_at dksJ7_getNode_1 10 rfl rfl)
theorem dJ7_getNode_36 : decode cJ7_getNode 36 = .ok (.aload_n 3, 1) := dk_45 (dk_at dksJ7_getNode_1 13 rfl rfl)
theorem dJ7_getNode_37 : decode cJ7_getNode 37 = .ok (.getfield 168, 3) := dk_180 0 168 (dk_at dksJ7_getNode_1 14 rfl rfl)
theorem dJ7_getNode_40 : decode cJ7_getNode 40 = .ok (.iload 6, 2) := dk_21 6 (dk_at dksJ7_getNode_1 17 rfl rfl)
theorem dJ7_getNode_42 : decode cJ7_getNode 42 = .ok (.if_icmp .ne 29, 3) := dk_160 0 29 (dk_at dksJ7_getNode_1 19 rfl rfl)
theorem dJ7_getNode_45 : decode cJ7_getNode 45 = .ok (.aload_n 3, 1) := dk_45 (dk_at dksJ7_getNode_1 22 rfl rfl)
theorem dJ7_getNode_46 : decode cJ7_getNode 46 = .ok (.getfield 170, 3) := dk_180 0 170 (dk_at dksJ7_getNode_2 0 rfl rfl)
theorem dJ7_getNode_49 : decode cJ7_getNode 49 = .ok (.dup, 1) := dk_89 (dk_at dksJ7_getNode_2 3 rfl rfl)
theorem dJ7_getNode_50 : decode cJ7_getNode 50 = .ok (.astore 7, 2) := dk_58 7 (dk_at dksJ7_getNode_2 4 rfl rfl)
theorem dJ7_getNode_52 : decode cJ7_getNode 52 = .ok (.aload_n 1, 1) := dk_43 (dk_at dksJ7_getNode_2 6 rfl rfl)
theorem dJ7_getNode_53 : decode cJ7_getNode 53 = .ok (.if_acmp .eq 16, 3) := dk_165 0 16 (dk_at dksJ7_getNode_2 7 rfl rfl)
theorem dJ7_getNode_56 : decode cJ7_getNode 56 = .ok (.aload_n 1, 1) := dk_43 (dk_at dksJ7_getNode_2 10 rfl rfl)
theorem dJ7_getNode_57 : decode cJ7_getNode 57 = .ok (.ifnull 14, 3) := dk_198 0 14 (dk_at dksJ7_getNode_2 11 rfl rfl)
theorem dJ7_getNode_60 : decode cJ7_getNode 60 = .ok (.aload_n 1, 1) := dk_43 (dk_at dksJ7_getNode_2 14 rfl rfl)
theorem dJ7_getNode_61 : decode cJ7_getNode 61 = .ok (.aload 7, 2) := dk_25 7 (dk_at dksJ7_getNode_2 15 rfl rfl)
theorem dJ7_getNode_63 : decode cJ7_getNode 63 = .ok (.invokevirtual 173, 3) := dk_182 0 173 (dk_at dksJ7_getNode_2 17 rfl rfl)
theorem dJ7_getNode_66 : decode cJ7_getNode 66 = .ok (.ifCond .eq 5, 3) := dk_153 0 5 (dk_at dksJ7_getNode_2 20 rfl rfl)
theorem dJ7_getNode_69 : decode cJ7_getNode 69 = .ok (.aload_n 3, 1) := dk_45 (dk_at dksJ7_getNode_2 23 rfl rfl)
theorem dJ7_getNode_70 : decode cJ7_getNode 70 = .ok (.areturn, 1) := dk_176 (dk_at dksJ7_getNode_3 0 rfl rfl)
theorem dJ7_getNode_71 : decode cJ7_getNode 71 = .ok (.aload_n 3, 1) := dk_45 (dk_at dksJ7_getNode_3 1 rfl rfl)
theorem dJ7_getNode_72 : decode cJ7_getNode 72 = .ok (.getfield 177, 3) := dk_180 0 177 (dk_at dksJ7_getNode_3 2 rfl rfl)
theorem dJ7_getNode_75 : decode cJ7_getNode 75 = .ok (.dup, 1) := dk_89 (dk_at dksJ7_getNode_3 5 rfl rfl)
theorem dJ7_getNode_76 : decode cJ7_getNode 76 = .ok (.astore 4, 2) := dk_58 4 (dk_at dksJ7_getNode_3 6 rfl rfl)
theorem dJ7_getNode_78 : decode cJ7_getNode 78 = .ok (.ifnull 70, 3) := dk_198 0 70 (dk_at dksJ7_getNode_3 8 rfl rfl)
theorem dJ7_getNode_81 : decode cJ7_getNode 81 = .ok (.aload_n 3, 1) := dk_45 (dk_at dksJ7_getNode_3 11 rfl rfl)
theorem dJ7_getNode_82 : decode cJ7_getNode 82 = .ok (.instanceof 180, 3) := dk_193 0 180 (dk_at dksJ7_getNode_3 12 rfl rfl)
theorem dJ7_getNode_85 : decode cJ7_getNode 85 = .ok (.ifCond .eq 14, 3) := dk_153 0 14 (dk_at dksJ7_getNode_3 15 rfl rfl)
theorem dJ7_getNode_88 : decode cJ7_getNode 88 = .ok (.aload_n 3, 1) := dk_45 (dk_at dksJ7_getNode_3 18 rfl rfl)
theorem dJ7_getNode_89 : decode cJ7_getNode 89 = .ok (.checkcast 180, 3) := dk_192 0 180 (dk_at dksJ7_getNode_3 19 rfl rfl)
theorem dJ7_getNode_92 : decode cJ7_getNode 92 = .ok (.iload 6, 2) := dk_21 6 (dk_at dksJ7_getNode_3 22 rfl rfl)
theorem dJ7_getNode_94 : decode cJ7_getNode 94 = .ok (.aload_n 1, 1) := dk_43 (dk_at dksJ7_getNode_4 0 rfl rfl)
theorem dJ7_getNode_95 : decode cJ7_getNode 95 = .ok (.invokevirtual 182, 3) := dk_182 0 182 (dk_at dksJ7_getNode_4 1 rfl rfl)
theorem dJ7_getNode_98 : decode cJ7_getNode 98 = .ok (.areturn, 1) := dk_176 (dk_at dksJ7_getNode_4 4 rfl rfl)
theorem dJ7_getNode_99 : decode cJ7_getNode 99 = .ok (.aload 4, 2) := dk_25 4 (dk_at dksJ7_getNode_4 5 rfl rfl)
theorem dJ7_getNode_101 : decode cJ7_getNode 101 = .ok (.getfield 168, 3) := dk_180 0 168 (dk_at dksJ7_getNode_4 7 rfl rfl)
theorem dJ7_getNode_104 : decode cJ7_getNode 104 = .ok (.iload 6, 2) := dk_21 6 (dk_at dksJ7_getNode_4 10 rfl rfl)
theorem dJ7_getNode_106 : decode cJ7_getNode 106 = .ok (.if_icmp .ne 31, 3) := dk_160 0 31 (dk_at dksJ7_getNode_4 12 rfl rfl)
theorem dJ7_getNode_109 : decode cJ7_getNode 109 = .ok (.aload 4, 2) := dk_25 4 (dk_at dksJ7_getNode_4 15 rfl rfl)
theorem dJ7_getNode_111 : decode cJ7_getNode 111 = .ok (.getfield 170, 3) := dk_180 0 170 (dk_at dksJ7_getNode_4 17 rfl rfl)
theorem dJ7_getNode_114 : decode cJ7_getNode 114 = .ok (.dup, 1) := dk_89 (dk_at dksJ7_getNode_4 20 rfl rfl)
theorem dJ7_getNode_115 : decode cJ7_getNode 115 = .ok (.astore 7, 2) := dk_58 7 (dk_at dksJ7_getNode_4 21 rfl rfl)
theorem dJ7_getNode_117 : decode cJ7_getNode 117 = .ok (.aload_n 1, 1) := dk_43 (dk_at dksJ7_getNode_4 23 rfl rfl)
theorem dJ7_getNode_118 : decode cJ7_getNode 118 = .ok (.if_acmp .eq 16, 3) := dk_165 0 16 (dk_at dksJ7_getNode_5 0 rfl rfl)
theorem dJ7_getNode_121 : decode cJ7_getNode 121 = .ok (.aload_n 1, 1) := dk_43 (dk_at dksJ7_getNode_5 3 rfl rfl)
theorem dJ7_getNode_122 : decode cJ7_getNode 122 = .ok (.ifnull 15, 3) := dk_198 0 15 (dk_at dksJ7_getNode_5 4 rfl rfl)
theorem dJ7_getNode_125 : decode cJ7_getNode 125 = .ok (.aload_n 1, 1) := dk_43 (dk_at dksJ7_getNode_5 7 rfl rfl)
theorem dJ7_getNode_126 : decode cJ7_getNode 126 = .ok (.aload 7, 2) := dk_25 7 (dk_at dksJ7_getNode_5 8 rfl rfl)
theorem dJ7_getNode_128 : decode cJ7_getNode 128 = .ok (.invokevirtual 173, 3) := dk_182 0 173 (dk_at dksJ7_getNode_5 10 rfl rfl)
theorem dJ7_getNode_131 : decode cJ7_getNode 131 = .ok (.ifCond .eq 6, 3) := dk_153 0 6 (dk_at dksJ7_getNode_5 13 rfl rfl)
theorem dJ7_getNode_134 : decode cJ7_getNode 134 = .ok (.aload 4, 2) := dk_25 4 (dk_at dksJ7_getNode_5 16 rfl rfl)
theorem dJ7_getNode_136 : decode cJ7_getNode 136 = .ok (.areturn, 1) := dk_176 (dk_at dksJ7_getNode_5 18 rfl rfl)
theorem dJ7_getNode_137 : decode cJ7_getNode 137 = .ok (.aload 4, 2) := dk_25 4 (dk_at dksJ7_getNode_5 19 rfl rfl)
theorem dJ7_getNode_139 : decode cJ7_getNode 139 = .ok (.getfield 177, 3) := dk_180 0 177 (dk_at dksJ7_getNode_5 21 rfl rfl)
theorem dJ7_getNode_142 : decode cJ7_getNode 142 = .ok (.dup, 1) := dk_89 (dk_at dksJ7_getNode_6 0 rfl rfl)
theorem dJ7_getNode_143 : decode cJ7_getNode 143 = .ok (.astore 4, 2) := dk_58 4 (dk_at dksJ7_getNode_6 1 rfl rfl)
theorem dJ7_getNode_145 : decode cJ7_getNode 145 = .ok (.ifnonnull (-46), 3) := dk_199 255 210 (dk_at dksJ7_getNode_6 3 rfl rfl)
theorem dJ7_getNode_148 : decode cJ7_getNode 148 = .ok (.aconst_null, 1) := dk_1 (dk_at dksJ7_getNode_6 6 rfl rfl)
theorem dJ7_getNode_149 : decode cJ7_getNode 149 = .ok (.areturn, 1) := dk_176 (dk_at dksJ7_getNode_6 7 rfl rfl)
abbrev cJ7_hash : ByteArray := prog_56_method_1_code
def yJ7_hash : MethodName := ⟨RJ7, "hash", "(Ljava/lang/Object;)I"⟩
def dkwJ7_hash_0 : List UInt8 := [42, 199, 0, 7, 3, 167, 0, 14, 42, 182, 0, 1, 89, 60, 27, 16, 16, 124, 130, 172]
abbrev dktJ7_hash_0 : List UInt8 := dkwJ7_hash_0 ++ []
theorem dksJ7_hash_0 : cJ7_hash.data.toList.drop 0 = dktJ7_hash_0 := by decide +kernel
theorem dJ7_hash_0 : decode cJ7_hash 0 = .ok (.aload_n 0, 1) := dk_42 (dk_at dksJ7_hash_0 0 rfl rfl)
theorem dJ7_hash_1 : decode cJ7_hash 1 = .ok (.ifnonnull 7, 3) := dk_199 0 7 (dk_at dksJ7_hash_0 1 rfl rfl)
theorem dJ7_hash_4 : decode cJ7_hash 4 = .ok (.iconst 0, 1) := dk_3 (dk_at dksJ7_hash_0 4 rfl rfl)
theorem dJ7_hash_5 : decode cJ7_hash 5 = .ok (.goto 14, 3) := dk_167 0 14 (dk_at dksJ7_hash_0 5 rfl rfl)
theorem dJ7_hash_8 : decode cJ7_hash 8 = .ok (.aload_n 0, 1) := dk_42 (dk_at dksJ7_hash_0 8 rfl rfl)
theorem dJ7_hash_9 : decode cJ7_hash 9 = .ok (.invokevirtual 1, 3) := dk_182 0 1 (dk_at dksJ7_hash_0 9 rfl rfl)
theorem dJ7_hash_12 : decode cJ7_hash 12 = .ok (.dup, 1) := dk_89 (dk_at dksJ7_hash_0 12 rfl rfl)
theorem dJ7_hash_13 : decode cJ7_hash 13 = .ok (.istore_n 1, 1) := dk_60 (dk_at dksJ7_hash_0 13 rfl rfl)
theorem dJ7_hash_14 : decode cJ7_hash 14 = .ok (.iload_n 1, 1) := dk_27 (dk_at dksJ7_hash_0 14 rfl rfl)
theorem dJ7_hash_15 : decode cJ7_hash 15 = .ok (.bipush 16, 2) := dk_16 16 (dk_at dksJ7_hash_0 15 rfl rfl)
theorem dJ7_hash_17 : decode cJ7_hash 17 = .ok (.iushr, 1) := dk_124 (dk_at dksJ7_hash_0 17 rfl rfl)
theorem dJ7_hash_18 : decode cJ7_hash 18 = .ok (.ixor, 1) := dk_130 (dk_at dksJ7_hash_0 18 rfl rfl)
theorem dJ7_hash_19 : decode cJ7_hash 19 = .ok (.ireturn, 1) := dk_172 (dk_at dksJ7_hash_0 19 rfl rfl)
abbrev cJ7_comparableClassFor : ByteArray := prog_56_method_2_code
def yJ7_comparableClassFor : MethodName := ⟨RJ7, "comparableClassFor", "(Ljava/lang/Object;)Ljava/lang/Class;"⟩
def dkwJ7_comparableClassFor_4 : List UInt8 := [4, 160, 0, 12, 45, 3, 50, 43, 166, 0, 5, 43, 176, 132, 7, 1, 167, 255, 186, 1, 176]
abbrev dktJ7_comparableClassFor_4 : List UInt8 := dkwJ7_comparableClassFor_4 ++ []
def dkwJ7_comparableClassFor_3 : List UInt8 := [185, 0, 23, 1, 0, 18, 7, 166, 0, 30, 25, 4, 185, 0, 27, 1, 0, 89, 78, 198, 0, 18, 45, 190]
abbrev dktJ7_comparableClassFor_3 : List UInt8 := dkwJ7_comparableClassFor_3 ++ dktJ7_comparableClassFor_4
def dkwJ7_comparableClassFor_2 : List UInt8 := [25, 5, 21, 7, 50, 58, 8, 25, 8, 193, 0, 21, 153, 0, 48, 25, 8, 192, 0, 21, 89, 58, 4]
abbrev dktJ7_comparableClassFor_2 : List UInt8 := dkwJ7_comparableClassFor_2 ++ dktJ7_comparableClassFor_3
def dkwJ7_comparableClassFor_1 : List UInt8 := [89, 77, 198, 0, 87, 44, 58, 5, 25, 5, 190, 54, 6, 3, 54, 7, 21, 7, 21, 6, 162, 0, 69]
abbrev dktJ7_comparableClassFor_1 : List UInt8 := dkwJ7_comparableClassFor_1 ++ dktJ7_comparableClassFor_2
def dkwJ7_comparableClassFor_0 : List UInt8 := [42, 193, 0, 7, 153, 0, 109, 42, 182, 0, 9, 89, 76, 18, 13, 166, 0, 5, 43, 176, 43, 182, 0, 15]
abbrev dktJ7_comparableClassFor_0 : List UInt8 := dkwJ7_comparableClassFor_0 ++ dktJ7_comparableClassFor_1
theorem dksJ7_comparableClassFor_0 : cJ7_comparableClassFor.data.toList.drop 0 = dktJ7_comparableClassFor_0 := by decide +kernel
theorem dksJ7_comparableClassFor_1 : cJ7_comparableClassFor.data.toList.drop 24 = dktJ7_comparableClassFor_1 := dk_seg dksJ7_comparableClassFor_0 24 rfl rfl
theorem dksJ7_comparableClassFor_2 : cJ7_comparableClassFor.data.toList.drop 47 = dktJ7_comparableClassFor_2 := dk_seg dksJ7_comparableClassFor_1 23 rfl rfl
theorem dksJ7_comparableClassFor_3 : cJ7_comparableClassFor.data.toList.drop 70 = dktJ7_comparableClassFor_3 := dk_seg dksJ7_comparableClassFor_2 23 rfl rfl
theorem dksJ7_comparableClassFor_4 : cJ7_comparableClassFor.data.toList.drop 94 = dktJ7_comparableClassFor_4 := dk_seg dksJ7_comparableClassFor_3 24 rfl rfl
theorem dJ7_comparableClassFor_0 : decode cJ7_comparableClassFor 0 = .ok (.aload_n 0, 1) := dk_42 (dk_at dksJ7_comparableClassFor_0 0 rfl rfl)
theorem dJ7_comparableClassFor_1 : decode cJ7_comparableClassFor 1 = .ok (.instanceof 7, 3) := dk_193 0 7 (dk_at dksJ7_comparableClassFor_0 1 rfl rfl)
theorem dJ7_comparableClassFor_4 : decode cJ7_comparableClassFor 4 = .ok (.ifCond .eq 109, 3) := dk_153 0 109 (dk_at dksJ7_comparableClassFor_0 4 rfl rfl)
theorem dJ7_comparableClassFor_7 : decode cJ7_comparableClassFor 7 = .ok (.aload_n 0, 1) := dk_42 (dk_at dksJ7_comparableClassFor_0 7 rfl rfl)
theorem dJ7_comparableClassFor_8 : decode cJ7_comparableClassFor 8 = .ok (.invokevirtual 9, 3) := dk_182 0 9 (dk_at dksJ7_comparableClassFor_0 8 rfl rfl)
theorem dJ7_comparableClassFor_11 : decode cJ7_comparableClassFor 11 = .ok (.dup, 1) := dk_89 (dk_at dksJ7_comparableClassFor_0 11 rfl rfl)
theorem dJ7_comparableClassFor_12 : decode cJ7_comparableClassFor 12 = .ok (.astore_n 1, 1) := dk_76 (dk_at dksJ7_comparableClassFor_0 12 rfl rfl)
theorem dJ7_comparableClassFor_13 : decode cJ7_comparableClassFor 13 = .ok (.ldc 13, 2) := dk_18 13 (dk_at dksJ7_comparableClassFor_0 13 rfl rfl)
theorem dJ7_comparableClassFor_15 : decode cJ7_comparableClassFor 15 = .ok (.if_acmp .ne 5, 3) := dk_166 0 5 (dk_at dksJ7_comparableClassFor_0 15 rfl rfl)
theorem dJ7_comparableClassFor_18 : decode cJ7_comparableClassFor 18 = .ok (.aload_n 1, 1) := dk_43 (dk_at dksJ7_comparableClassFor_0 18 rfl rfl)
theorem dJ7_comparableClassFor_19 : decode cJ7_comparableClassFor 19 = .ok (.areturn, 1) := dk_176 (dk_at dksJ7_comparableClassFor_0 19 rfl rfl)
theorem dJ7_comparableClassFor_20 : decode cJ7_comparableClassFor 20 = .ok (.aload_n 1, 1) := dk_43 (dk_at dksJ7_comparableClassFor_0 20 rfl rfl)
theorem dJ7_comparableClassFor_21 : decode cJ7_comparableClassFor 21 = .ok (.invokevirtual 15, 3) := dk_182 0 15 (dk_at dksJ7_comparableClassFor_0 21 rfl rfl)
theorem dJ7_comparableClassFor_24 : decode cJ7_comparableClassFor 24 = .ok (.dup, 1) := dk_89 (dk_at dksJ7_comparableClassFor_1 0 rfl rfl)
theorem dJ7_comparableClassFor_25 : decode cJ7_comparableClassFor 25 = .ok (.astore_n 2, 1) := dk_77 (dk_at dksJ7_comparableClassFor_1 1 rfl rfl)
theorem dJ7_comparableClassFor_26 : decode cJ7_comparableClassFor 26 = .ok (.ifnull 87, 3) := dk_198 0 87 (dk_at dksJ7_comparableClassFor_1 2 rfl rfl)
theorem dJ7_comparableClassFor_29 : decode cJ7_comparableClassFor 29 = .ok (.aload_n 2, 1) := dk_44 (dk_at dksJ7_comparableClassFor_1 5 rfl rfl)
theorem dJ7_comparableClassFor_30 : decode cJ7_comparableClassFor 30 = .ok (.astore 5, 2) := dk_58 5 (dk_at dksJ7_comparableClassFor_1 6 rfl rfl)
theorem dJ7_comparableClassFor_32 : decode cJ7_comparableClassFor 32 = .ok (.aload 5, 2) := dk_25 5 (dk_at dksJ7_comparableClassFor_1 8 rfl rfl)
theorem dJ7_comparableClassFor_34 : decode cJ7_comparableClassFor 34 = .ok (.arraylength, 1) := dk_190 (dk_at dksJ7_comparableClassFor_1 10 rfl rfl)
theorem dJ7_comparableClassFor_35 : decode cJ7_comparableClassFor 35 = .ok (.istore 6, 2) := dk_54 6 (dk_at dksJ7_comparableClassFor_1 11 rfl rfl)
theorem dJ7_comparableClassFor_37 : decode cJ7_comparableClassFor 37 = .ok (.iconst 0, 1) := dk_3 (dk_at dksJ7_comparableClassFor_1 13 rfl rfl)
theorem dJ7_comparableClassFor_38 : decode cJ7_comparableClassFor 38 = .ok (.istore 7, 2) := dk_54 7 (dk_at dksJ7_comparableClassFor_1 14 rfl rfl)
theorem dJ7_comparableClassFor_40 : decode cJ7_comparableClassFor 40 = .ok (.iload 7, 2) := dk_21 7 (dk_at dksJ7_comparableClassFor_1 16 rfl rfl)
theorem dJ7_comparableClassFor_42 : decode cJ7_comparableClassFor 42 = .ok (.iload 6, 2) := dk_21 6 (dk_at dksJ7_comparableClassFor_1 18 rfl rfl)
theorem dJ7_comparableClassFor_44 : decode cJ7_comparableClassFor 44 = .ok (.if_icmp .ge 69, 3) := dk_162 0 69 (dk_at dksJ7_comparableClassFor_1 20 rfl rfl)
theorem dJ7_comparableClassFor_47 : decode cJ7_comparableClassFor 47 = .ok (.aload 5, 2) := dk_25 5 (dk_at dksJ7_comparableClassFor_2 0 rfl rfl)
theorem dJ7_comparableClassFor_49 : decode cJ7_comparableClassFor 49 = .ok (.iload 7, 2) := dk_21 7 (dk_at dksJ7_comparableClassFor_2 2 rfl rfl)
theorem dJ7_comparableClassFor_51 : decode cJ7_comparableClassFor 51 = .ok (.aaload, 1) := dk_50 (dk_at dksJ7_comparableClassFor_2 4 rfl rfl)
theorem dJ7_comparableClassFor_52 : decode cJ7_comparableClassFor 52 = .ok (.astore 8, 2) := dk_58 8 (dk_at dksJ7_comparableClassFor_2 5 rfl rfl)
theorem dJ7_comparableClassFor_54 : decode cJ7_comparableClassFor 54 = .ok (.aload 8, 2) := dk_25 8 (dk_at dksJ7_comparableClassFor_2 7 rfl rfl)
theorem dJ7_comparableClassFor_56 : decode cJ7_comparableClassFor 56 = .ok (.instanceof 21, 3) := dk_193 0 21 (dk_at dksJ7_comparableClassFor_2 9 rfl rfl)
theorem dJ7_comparableClassFor_59 : decode cJ7_comparableClassFor 59 = .ok (.ifCond .eq 48, 3) := dk_153 0 48 (dk_at dksJ7_comparableClassFor_2 12 rfl rfl)
theorem dJ7_comparableClassFor_62 : decode cJ7_comparableClassFor 62 = .ok (.aload 8, 2) := dk_25 8 (dk_at dksJ7_comparableClassFor_2 15 rfl rfl)
theorem dJ7_comparableClassFor_64 : decode cJ7_comparableClassFor 64 = .ok (.checkcast 21, 3) := dk_192 0 21 (dk_at dksJ7_comparableClassFor_2 17 rfl rfl)
theorem dJ7_comparableClassFor_67 : decode cJ7_comparableClassFor 67 = .ok (.dup, 1) := dk_89 (dk_at dksJ7_comparableClassFor_2 20 rfl rfl)
theorem dJ7_comparableClassFor_68 : decode cJ7_comparableClassFor 68 = .ok (.astore 4, 2) := dk_58 4 (dk_at dksJ7_comparableClassFor_2 21 rfl rfl)
theorem dJ7_comparableClassFor_70 : decode cJ7_comparableClassFor 70 = .ok (.invokeinterface 23 1, 5) := by decide +kernel
theorem dJ7_comparableClassFor_75 : decode cJ7_comparableClassFor 75 = .ok (.ldc 7, 2) := dk_18 7 (dk_at dksJ7_comparableClassFor_3 5 rfl rfl)
theorem dJ7_comparableClassFor_77 : decode cJ7_comparableClassFor 77 = .ok (.if_acmp .ne 30, 3) := dk_166 0 30 (dk_at dksJ7_comparableClassFor_3 7 rfl rfl)
theorem dJ7_comparableClassFor_80 : decode cJ7_comparableClassFor 80 = .ok (.aload 4, 2) := dk_25 4 (dk_at dksJ7_comparableClassFor_3 10 rfl rfl)
theorem dJ7_comparableClassFor_82 : decode cJ7_comparableClassFor 82 = .ok (.invokeinterface 27 1, 5) := by decide +kernel
theorem dJ7_comparableClassFor_87 : decode cJ7_comparableClassFor 87 = .ok (.dup, 1) := dk_89 (dk_at dksJ7_comparableClassFor_3 17 rfl rfl)
theorem dJ7_comparableClassFor_88 : decode cJ7_comparableClassFor 88 = .ok (.astore_n 3, 1) := dk_78 (dk_at dksJ7_comparableClassFor_3 18 rfl rfl)
theorem dJ7_comparableClassFor_89 : decode cJ7_comparableClassFor 89 = .ok (.ifnull 18, 3) := dk_198 0 18 (dk_at dksJ7_comparableClassFor_3 19 rfl rfl)
theorem dJ7_comparableClassFor_92 : decode cJ7_comparableClassFor 92 = .ok (.aload_n 3, 1) := dk_45 (dk_at dksJ7_comparableClassFor_3 22 rfl rfl)
theorem dJ7_comparableClassFor_93 : decode cJ7_comparableClassFor 93 = .ok (.arraylength, 1) := dk_190 (dk_at dksJ7_comparableClassFor_3 23 rfl rfl)
theorem dJ7_comparableClassFor_94 : decode cJ7_comparableClassFor 94 = .ok (.iconst 1, 1) := dk_4 (dk_at dksJ7_comparableClassFor_4 0 rfl rfl)
theorem dJ7_comparableClassFor_95 : decode cJ7_comparableClassFor 95 = .ok (.if_icmp .ne 12, 3) := dk_160 0 12 (dk_at dksJ7_comparableClassFor_4 1 rfl rfl)
theorem dJ7_comparableClassFor_98 : decode cJ7_comparableClassFor 98 = .ok (.aload_n 3, 1) := dk_45 (dk_at dksJ7_comparableClassFor_4 4 rfl rfl)
theorem dJ7_comparableClassFor_99 : decode cJ7_comparableClassFor 99 = .ok (.iconst 0, 1) := dk_3 (dk_at dksJ7_comparableClassFor_4 5 rfl rfl)
theorem dJ7_comparableClassFor_100 : decode cJ7_comparableClassFor 100 = .ok (.aaload, 1) := dk_50 (dk_at dksJ7_comparableClassFor_4 6 rfl rfl)
theorem dJ7_comparableClassFor_101 : decode cJ7_comparableClassFor 101 = .ok (.aload_n 1, 1) := dk_43 (dk_at dksJ7_comparableClassFor_4 7 rfl rfl)
theorem dJ7_comparableClassFor_102 : decode cJ7_comparableClassFor 102 = .ok (.if_acmp .ne 5, 3) := dk_166 0 5 (dk_at dksJ7_comparableClassFor_4 8 rfl rfl)
theorem dJ7_comparableClassFor_105 : decode cJ7_comparableClassFor 105 = .ok (.aload_n 1, 1) := dk_43 (dk_at dksJ7_comparableClassFor_4 11 rfl rfl)
theorem dJ7_comparableClassFor_106 : decode cJ7_comparableClassFor 106 = .ok (.areturn, 1) := dk_176 (dk_at dksJ7_comparableClassFor_4 12 rfl rfl)
theorem dJ7_comparableClassFor_107 : decode cJ7_comparableClassFor 107 = .ok (.iinc 7 1, 3) := dk_132 7 1 (dk_at dksJ7_comparableClassFor_4 13 rfl rfl)
theorem dJ7_comparableClassFor_110 : decode cJ7_comparableClassFor 110 = .ok (.goto (-70), 3) := dk_167 255 186 (dk_at dksJ7_comparableClassFor_4 16 rfl rfl)
theorem dJ7_comparableClassFor_113 : decode cJ7_comparableClassFor 113 = .ok (.aconst_null, 1) := dk_1 (dk_at dksJ7_comparableClassFor_4 19 rfl rfl)
theorem dJ7_comparableClassFor_114 : decode cJ7_comparableClassFor 114 = .ok (.areturn, 1) := dk_176 (dk_at dksJ7_comparableClassFor_4 20 rfl rfl)
abbrev cJ7_compareComparables : ByteArray := prog_56_method_3_code
def yJ7_compareComparables : MethodName := ⟨RJ7, "compareComparables", "(Ljava/lang/Class;Ljava/lang/Object;Ljava/lang/Object;)I"⟩
def dkwJ7_compareComparables_1 : List UInt8 := [185, 0, 30, 2, 0, 172]
abbrev dktJ7_compareComparables_1 : List UInt8 := dkwJ7_compareComparables_1 ++ []
def dkwJ7_compareComparables_0 : List UInt8 := [44, 198, 0, 11, 44, 182, 0, 9, 42, 165, 0, 7, 3, 167, 0, 13, 43, 192, 0, 7, 44]
abbrev dktJ7_compareComparables_0 : List UInt8 := dkwJ7_compareComparables_0 ++ dktJ7_compareComparables_1
theorem dksJ7_compareComparables_0 : cJ7_compareComparables.data.toList.drop 0 = dktJ7_compareComparables_0 := by decide +kernel
theorem dksJ7_compareComparables_1 : cJ7_compareComparables.data.toList.drop 21 = dktJ7_compareComparables_1 := dk_seg dksJ7_compareComparables_0 21 rfl rfl
theorem dJ7_compareComparables_0 : decode cJ7_compareComparables 0 = .ok (.aload_n 2, 1) := dk_44 (dk_at dksJ7_compareComparables_0 0 rfl rfl)
theorem dJ7_compareComparables_1 : decode cJ7_compareComparables 1 = .ok (.ifnull 11, 3) := dk_198 0 11 (dk_at dksJ7_compareComparables_0 1 rfl rfl)
theorem dJ7_compareComparables_4 : decode cJ7_compareComparables 4 = .ok (.aload_n 2, 1) := dk_44 (dk_at dksJ7_compareComparables_0 4 rfl rfl)
theorem dJ7_compareComparables_5 : decode cJ7_compareComparables 5 = .ok (.invokevirtual 9, 3) := dk_182 0 9 (dk_at dksJ7_compareComparables_0 5 rfl rfl)
theorem dJ7_compareComparables_8 : decode cJ7_compareComparables 8 = .ok (.aload_n 0, 1) := dk_42 (dk_at dksJ7_compareComparables_0 8 rfl rfl)
theorem dJ7_compareComparables_9 : decode cJ7_compareComparables 9 = .ok (.if_acmp .eq 7, 3) := dk_165 0 7 (dk_at dksJ7_compareComparables_0 9 rfl rfl)
theorem dJ7_compareComparables_12 : decode cJ7_compareComparables 12 = .ok (.iconst 0, 1) := dk_3 (dk_at dksJ7_compareComparables_0 12 rfl rfl)
theorem dJ7_compareComparables_13 : decode cJ7_compareComparables 13 = .ok (.goto 13, 3) := dk_167 0 13 (dk_at dksJ7_compareComparables_0 13 rfl rfl)
theorem dJ7_compareComparables_16 : decode cJ7_compareComparables 16 = .ok (.aload_n 1, 1) := dk_43 (dk_at dksJ7_compareComparables_0 16 rfl rfl)
theorem dJ7_compareComparables_17 : decode cJ7_compareComparables 17 = .ok (.checkcast 7, 3) := dk_192 0 7 (dk_at dksJ7_compareComparables_0 17 rfl rfl)
theorem dJ7_compareComparables_20 : decode cJ7_compareComparables 20 = .ok (.aload_n 2, 1) := dk_44 (dk_at dksJ7_compareComparables_0 20 rfl rfl)
theorem dJ7_compareComparables_21 : decode cJ7_compareComparables 21 = .ok (.invokeinterface 30 2, 5) := by decide +kernel
theorem dJ7_compareComparables_26 : decode cJ7_compareComparables 26 = .ok (.ireturn, 1) := dk_172 (dk_at dksJ7_compareComparables_1 5 rfl rfl)
abbrev cJ7_put : ByteArray := prog_56_method_15_code
def yJ7_put : MethodName := ⟨RJ7, "put", "(Ljava/lang/Object;Ljava/lang/Object;)Ljava/lang/Object;"⟩
def dkwJ7_put_0 : List UInt8 := [42, 43, 184, 0, 149, 43, 44, 3, 4, 182, 0, 152, 176]
abbrev dktJ7_put_0 : List UInt8 := dkwJ7_put_0 ++ []
theorem dksJ7_put_0 : cJ7_put.data.toList.drop 0 = dktJ7_put_0 := by decide +kernel
theorem dJ7_put_0 : decode cJ7_put 0 = .ok (.aload_n 0, 1) := dk_42 (dk_at dksJ7_put_0 0 rfl rfl)
theorem dJ7_put_1 : decode cJ7_put 1 = .ok (.aload_n 1, 1) := dk_43 (dk_at dksJ7_put_0 1 rfl rfl)
theorem dJ7_put_2 : decode cJ7_put 2 = .ok (.invokestatic 149, 3) := dk_184 0 149 (dk_at dksJ7_put_0 2 rfl rfl)
theorem dJ7_put_5 : decode cJ7_put 5 = .ok (.aload_n 1, 1) := dk_43 (dk_at dksJ7_put_0 5 rfl rfl)
theorem dJ7_put_6 : decode cJ7_put 6 = .ok (.aload_n 2, 1) := dk_44 (dk_at dksJ7_put_0 6 rfl rfl)
theorem dJ7_put_7 : decode cJ7_put 7 = .ok (.iconst 0, 1) := dk_3 (dk_at dksJ7_put_0 7 rfl rfl)
theorem dJ7_put_8 : decode cJ7_put 8 = .ok (.iconst 1, 1) := dk_4 (dk_at dksJ7_put_0 8 rfl rfl)
theorem dJ7_put_9 : decode cJ7_put 9 = .ok (.invokevirtual 152, 3) := dk_182 0 152 (dk_at dksJ7_put_0 9 rfl rfl)
theorem dJ7_put_12 : decode cJ7_put 12 = .ok (.areturn, 1) := dk_176 (dk_at dksJ7_put_0 12 rfl rfl)
abbrev cJ7_putVal : ByteArray := prog_56_method_16_code
def yJ7_putVal : MethodName := ⟨RJ7, "putVal", "(ILjava/lang/Object;Ljava/lang/Object;ZZ)Ljava/lang/Object;"⟩
def dkwJ7_putVal_12 : List UInt8 := [181, 0, 156, 42, 180, 0, 88, 164, 0, 8, 42, 182, 0, 117, 87, 42, 21, 5, 182, 0, 205, 1, 176]
abbrev dktJ7_putVal_12 : List UInt8 := dkwJ7_putVal_12 ++ []
def dkwJ7_putVal_11 : List UInt8 := [182, 0, 198, 25, 12, 176, 42, 89, 180, 0, 202, 4, 96, 181, 0, 202, 42, 89, 180, 0, 156, 4, 96, 90]
abbrev dktJ7_putVal_11 : List UInt8 := dkwJ7_putVal_11 ++ dktJ7_putVal_12
def dkwJ7_putVal_10 : List UInt8 := [180, 0, 162, 58, 12, 21, 4, 153, 0, 8, 25, 12, 199, 0, 9, 25, 10, 45, 181, 0, 162, 42, 25, 10]
abbrev dktJ7_putVal_10 : List UInt8 := dkwJ7_putVal_10 ++ dktJ7_putVal_11
def dkwJ7_putVal_9 : List UInt8 := [153, 0, 6, 167, 0, 13, 25, 10, 58, 7, 132, 12, 1, 167, 255, 171, 25, 10, 198, 0, 35, 25, 10]
abbrev dktJ7_putVal_9 : List UInt8 := dkwJ7_putVal_9 ++ dktJ7_putVal_10
def dkwJ7_putVal_8 : List UInt8 := [25, 10, 180, 0, 170, 89, 58, 11, 44, 165, 0, 29, 44, 198, 0, 15, 44, 25, 11, 182, 0, 173]
abbrev dktJ7_putVal_8 : List UInt8 := dkwJ7_putVal_8 ++ dktJ7_putVal_9
def dkwJ7_putVal_7 : List UInt8 := [16, 7, 161, 0, 60, 42, 25, 6, 27, 182, 0, 194, 167, 0, 50, 25, 10, 180, 0, 168, 27, 160, 0, 31]
abbrev dktJ7_putVal_7 : List UInt8 := dkwJ7_putVal_7 ++ dktJ7_putVal_8
def dkwJ7_putVal_6 : List UInt8 := [180, 0, 177, 89, 58, 10, 199, 0, 33, 25, 7, 42, 27, 44, 45, 1, 182, 0, 186, 181, 0, 177, 21, 12]
abbrev dktJ7_putVal_6 : List UInt8 := dkwJ7_putVal_6 ++ dktJ7_putVal_7
def dkwJ7_putVal_5 : List UInt8 := [192, 0, 180, 42, 25, 6, 27, 44, 45, 182, 0, 190, 58, 10, 167, 0, 94, 3, 54, 12, 25, 7]
abbrev dktJ7_putVal_5 : List UInt8 := dkwJ7_putVal_5 ++ dktJ7_putVal_6
def dkwJ7_putVal_4 : List UInt8 := [182, 0, 173, 153, 0, 10, 25, 7, 58, 10, 167, 0, 121, 25, 7, 193, 0, 180, 153, 0, 22, 25, 7]
abbrev dktJ7_putVal_4 : List UInt8 := dkwJ7_putVal_4 ++ dktJ7_putVal_5
def dkwJ7_putVal_3 : List UInt8 := [160, 0, 35, 25, 7, 180, 0, 170, 89, 58, 11, 44, 165, 0, 16, 44, 198, 0, 19, 44, 25, 11]
abbrev dktJ7_putVal_3 : List UInt8 := dkwJ7_putVal_3 ++ dktJ7_putVal_4
def dkwJ7_putVal_2 : List UInt8 := [25, 6, 21, 9, 42, 27, 44, 45, 1, 182, 0, 186, 83, 167, 0, 199, 25, 7, 180, 0, 168, 27]
abbrev dktJ7_putVal_2 : List UInt8 := dkwJ7_putVal_2 ++ dktJ7_putVal_3
def dkwJ7_putVal_1 : List UInt8 := [58, 6, 190, 54, 8, 25, 6, 21, 8, 4, 100, 27, 126, 89, 54, 9, 50, 89, 58, 7, 199, 0, 19]
abbrev dktJ7_putVal_1 : List UInt8 := dkwJ7_putVal_1 ++ dktJ7_putVal_2
def dkwJ7_putVal_0 : List UInt8 := [42, 180, 0, 105, 89, 58, 6, 198, 0, 12, 25, 6, 190, 89, 54, 8, 154, 0, 13, 42, 182, 0, 117, 89]
abbrev dktJ7_putVal_0 : List UInt8 := dkwJ7_putVal_0 ++ dktJ7_putVal_1
theorem dksJ7_putVal_0 : cJ7_putVal.data.toList.drop 0 = dktJ7_putVal_0 := by decide +kernel
theorem dksJ7_putVal_1 : cJ7_putVal.data.toList.drop 24 = dktJ7_putVal_1 := dk_seg dksJ7_putVal_0 24 rfl rfl
theorem dksJ7_putVal_2 : cJ7_putVal.data.toList.drop 47 = dktJ7_putVal_2 := dk_seg dksJ7_putVal_1 23 rfl rfl
theorem dksJ7_putVal_3 : cJ7_putVal.data.toList.drop 69 = dktJ7_putVal_3 := dk_seg dksJ7_putVal_2 22 rfl rfl
theorem dksJ7_putVal_4 : cJ7_putVal.data.toList.drop 91 = dktJ7_putVal_4 := dk_seg dksJ7_putVal_3 22 rfl rfl
theorem dksJ7_putVal_5 : cJ7_putVal.data.toList.drop 114 = dktJ7_putVal_5 := dk_seg dksJ7_putVal_4 23 rfl rfl
theorem dksJ7_putVal_6 : cJ7_putVal.data.toList.drop 136 = dktJ7_putVal_6 := dk_seg dksJ7_putVal_5 22 rfl rfl
theorem dksJ7_putVal_7 : cJ7_putVal.data.toList.drop 160 = dktJ7_putVal_7 := dk_seg dksJ7_putVal_6 24 rfl rfl
theorem dksJ7_putVal_8 : cJ7_putVal.data.toList.drop 184 = dktJ7_putVal_8 := dk_seg dksJ7_putVal_7 24 rfl rfl
theorem dksJ7_putVal_9 : cJ7_putVal.data.toList.drop 206 = dktJ7_putVal_9 := dk_seg dksJ7_putVal_8 22 rfl rfl
theorem dksJ7_putVal_10 : cJ7_putVal.data.toList.drop 229 = dktJ7_putVal_10 := dk_seg dksJ7_putVal_9 23 rfl rfl
theorem dksJ7_putVal_11 : cJ7_putVal.data.toList.drop 253 = dktJ7_putVal_11 := dk_seg dksJ7_putVal_10 24 rfl rfl
theorem dksJ7_putVal_12 : cJ7_putVal.data.toList.drop 277 = dktJ7_putVal_12 := dk_seg dksJ7_putVal_11 24 rfl rfl
theorem dJ7_putVal_0 : decode cJ7_putVal 0 = .ok (.aload_n 0, 1) := dk_42 (dk_at dksJ7_putVal_0 0 rfl rfl)
theorem dJ7_putVal_1 : decode cJ7_putVal 1 = .ok (.getfield 105, 3) := dk_180 0 105 (dk_at dksJ7_putVal_0 1 rfl rfl)
theorem dJ7_putVal_4 : decode cJ7_putVal 4 = .ok (.dup, 1) := dk_89 (dk_at dksJ7_putVal_0 4 rfl rfl)
theorem dJ7_putVal_5 : decode cJ7_putVal 5 = .ok (.astore 6, 2) := dk_58 6 (dk_at dksJ7_putVal_0 5 rfl rfl)
theorem dJ7_putVal_7 : decode cJ7_putVal 7 = .ok (.ifnull 12, 3) := dk_198 0 12 (dk_at dksJ7_putVal_0 7 rfl rfl)
theorem dJ7_putVal_10 : decode cJ7_putVal 10 = .ok (.aload 6, 2) := dk_25 6 (dk_at dksJ7_putVal_0 10 rfl rfl)
theorem dJ7_putVal_12 : decode cJ7_putVal 12 = .ok (.arraylength, 1) := dk_190 (dk_at dksJ7_putVal_0 12 rfl rfl)
theorem dJ7_putVal_13 : decode cJ7_putVal 13 = .ok (.dup, 1) := dk_89 (dk_at dksJ7_putVal_0 13 rfl rfl)
theorem dJ7_putVal_14 : decode cJ7_putVal 14 = .ok (.istore 8, 2) := dk_54 8 (dk_at dksJ7_putVal_0 14 rfl rfl)
theorem dJ7_putVal_16 : decode cJ7_putVal 16 = .ok (.ifCond .ne 13, 3) := dk_154 0 13 (dk_at dksJ7_putVal_0 16 rfl rfl)
theorem dJ7_putVal_19 : decode cJ7_putVal 19 = .ok (.aload_n 0, 1) := dk_42 (dk_at dksJ7_putVal_0 19 rfl rfl)
theorem dJ7_putVal_20 : decode cJ7_putVal 20 = .ok (.invokevirtual 117, 3) := dk_182 0 117 (dk_at dksJ7_putVal_0 20 rfl rfl)
theorem dJ7_putVal_23 : decode cJ7_putVal 23 = .ok (.dup, 1) := dk_89 (dk_at dksJ7_putVal_0 23 rfl rfl)
theorem dJ7_putVal_24 : decode cJ7_putVal 24 = .ok (.astore 6, 2) := dk_58 6 (dk_at dksJ7_putVal_1 0 rfl rfl)
theorem dJ7_putVal_26 : decode cJ7_putVal 26 = .ok (.arraylength, 1) := dk_190 (dk_at dksJ7_putVal_1 2 rfl rfl)
theorem dJ7_putVal_27 : decode cJ7_putVal 27 = .ok (.istore 8, 2) := dk_54 8 (dk_at dksJ7_putVal_1 3 rfl rfl)
theorem dJ7_putVal_29 : decode cJ7_putVal 29 = .ok (.aload 6, 2) := dk_25 6 (dk_at dksJ7_putVal_1 5 rfl rfl)
theorem dJ7_putVal_31 : decode cJ7_putVal 31 = .ok (.iload 8, 2) := dk_21 8 (dk_at dksJ7_putVal_1 7 rfl rfl)
theorem dJ7_putVal_33 : decode cJ7_putVal 33 = .ok (.iconst 1, 1) := dk_4 (dk_at dksJ7_putVal_1 9 rfl rfl)
theorem dJ7_putVal_34 : decode cJ7_putVal 34 = .ok (.isub, 1) := dk_100 (dk_at dksJ7_putVal_1 10 rfl rfl)
theorem dJ7_putVal_35 : decode cJ7_putVal 35 = .ok (.iload_n 1, 1) := dk_27 (dk_at dksJ7_putVal_1 11 rfl rfl)
theorem dJ7_putVal_36 : decode cJ7_putVal 36 = .ok (.iand, 1) := dk_126 (dk_at dksJ7_putVal_1 12 rfl rfl)
theorem dJ7_putVal_37 : decode cJ7_putVal 37 = .ok (.dup, 1) := dk_89 (dk_at dksJ7_putVal_1 13 rfl rfl)
theorem dJ7_putVal_38 : decode cJ7_putVal 38 = .ok (.istore 9, 2) := dk_54 9 (dk_at dksJ7_putVal_1 14 rfl rfl)
theorem dJ7_putVal_40 : decode cJ7_putVal 40 = .ok (.aaload, 1) := dk_50 (dk_at dksJ7_putVal_1 16 rfl rfl)
theorem dJ7_putVal_41 : decode cJ7_putVal 41 = .ok (.dup, 1) := dk_89 (dk_at dksJ7_putVal_1 17 rfl rfl)
theorem dJ7_putVal_42 : decode cJ7_putVal 42 = .ok (.astore 7, 2) := dk_58 7 (dk_at dksJ7_putVal_1 18 rfl rfl)
theorem dJ7_putVal_44 : decode cJ7_putVal 44 = .ok (.ifnonnull 19, 3) := dk_199 0 19 (dk_at dksJ7_putVal_1 20 rfl rfl)
theorem dJ7_putVal_47 : decode cJ7_putVal 47 = .ok (.aload 6, 2) := dk_25 6 (dk_at dksJ7_putVal_2 0 rfl rfl)
theorem dJ7_putVal_49 : decode cJ7_putVal 49 = .ok (.iload 9, 2) := dk_21 9 (dk_at dksJ7_putVal_2 2 rfl rfl)
theorem dJ7_putVal_51 : decode cJ7_putVal 51 = .ok (.aload_n 0, 1) := dk_42 (dk_at dksJ7_putVal_2 4 rfl rfl)
theorem dJ7_putVal_52 : decode cJ7_putVal 52 = .ok (.iload_n 1, 1) := dk_27 (dk_at dksJ7_putVal_2 5 rfl rfl)
theorem dJ7_putVal_53 : decode cJ7_putVal 53 = .ok (.aload_n 2, 1) := dk_44 (dk_at dksJ7_putVal_2 6 rfl rfl)
theorem dJ7_putVal_54 : decode cJ7_putVal 54 = .ok (.aload_n 3, 1) := dk_45 (dk_at dksJ7_putVal_2 7 rfl rfl)
theorem dJ7_putVal_55 : decode cJ7_putVal 55 = .ok (.aconst_null, 1) := dk_1 (dk_at dksJ7_putVal_2 8 rfl rfl)
theorem dJ7_putVal_56 : decode cJ7_putVal 56 = .ok (.invokevirtual 186, 3) := dk_182 0 186 (dk_at dksJ7_putVal_2 9 rfl rfl)
theorem dJ7_putVal_59 : decode cJ7_putVal 59 = .ok (.aastore, 1) := dk_83 (dk_at dksJ7_putVal_2 12 rfl rfl)
theorem dJ7_putVal_60 : decode cJ7_putVal 60 = .ok (.goto 199, 3) := dk_167 0 199 (dk_at dksJ7_putVal_2 13 rfl rfl)
theorem dJ7_putVal_63 : decode cJ7_putVal 63 = .ok (.aload 7, 2) := dk_25 7 (dk_at dksJ7_putVal_2 16 rfl rfl)
theorem dJ7_putVal_65 : decode cJ7_putVal 65 = .ok (.getfield 168, 3) := dk_180 0 168 (dk_at dksJ7_putVal_2 18 rfl rfl)
theorem dJ7_putVal_68 : decode cJ7_putVal 68 = .ok (.iload_n 1, 1) := dk_27 (dk_at dksJ7_putVal_2 21 rfl rfl)
theorem dJ7_putVal_69 : decode cJ7_putVal 69 = .ok (.if_icmp .ne 35, 3) := dk_160 0 35 (dk_at dksJ7_putVal_3 0 rfl rfl)
theorem dJ7_putVal_72 : decode cJ7_putVal 72 = .ok (.aload 7, 2) := dk_25 7 (dk_at dksJ7_putVal_3 3 rfl rfl)
theorem dJ7_putVal_74 : decode cJ7_putVal 74 = .ok (.getfield 170, 3) := dk_180 0 170 (dk_at dksJ7_putVal_3 5 rfl rfl)
theorem dJ7_putVal_77 : decode cJ7_putVal 77 = .ok (.dup, 1) := dk_89 (dk_at dksJ7_putVal_3 8 rfl rfl)
theorem dJ7_putVal_78 : decode cJ7_putVal 78 = .ok (.astore 11, 2) := dk_58 11 (dk_at dksJ7_putVal_3 9 rfl rfl)
theorem dJ7_putVal_80 : decode cJ7_putVal 80 = .ok (.aload_n 2, 1) := dk_44 (dk_at dksJ7_putVal_3 11 rfl rfl)
theorem dJ7_putVal_81 : decode cJ7_putVal 81 = .ok (.if_acmp .eq 16, 3) := dk_165 0 16 (dk_at dksJ7_putVal_3 12 rfl rfl)
theorem dJ7_putVal_84 : decode cJ7_putVal 84 = .ok (.aload_n 2, 1) := dk_44 (dk_at dksJ7_putVal_3 15 rfl rfl)
theorem dJ7_putVal_85 : decode cJ7_putVal 85 = .ok (.ifnull 19, 3) := dk_198 0 19 (dk_at dksJ7_putVal_3 16 rfl rfl)
theorem dJ7_putVal_88 : decode cJ7_putVal 88 = .ok (.aload_n 2, 1) := dk_44 (dk_at dksJ7_putVal_3 19 rfl rfl)
theorem dJ7_putVal_89 : decode cJ7_putVal 89 = .ok (.aload 11, 2) := dk_25 11 (dk_at dksJ7_putVal_3 20 rfl rfl)
theorem dJ7_putVal_91 : decode cJ7_putVal 91 = .ok (.invokevirtual 173, 3) := dk_182 0 173 (dk_at dksJ7_putVal_4 0 rfl rfl)
theorem dJ7_putVal_94 : decode cJ7_putVal 94 = .ok (.ifCond .eq 10, 3) := dk_153 0 10 (dk_at dksJ7_putVal_4 3 rfl rfl)
theorem dJ7_putVal_97 : decode cJ7_putVal 97 = .ok (.aload 7, 2) := dk_25 7 (dk_at dksJ7_putVal_4 6 rfl rfl)
theorem dJ7_putVal_99 : decode cJ7_putVal 99 = .ok (.astore 10, 2) := dk_58 10 (dk_at dksJ7_putVal_4 8 rfl rfl)
theorem dJ7_putVal_101 : decode cJ7_putVal 101 = .ok (.goto 121, 3) := dk_167 0 121 (dk_at dksJ7_putVal_4 10 rfl rfl)
theorem dJ7_putVal_104 : decode cJ7_putVal 104 = .ok (.aload 7, 2) := dk_25 7 (dk_at dksJ7_putVal_4 13 rfl rfl)
theorem dJ7_putVal_106 : decode cJ7_putVal 106 = .ok (.instanceof 180, 3) := dk_193 0 180 (dk_at dksJ7_putVal_4 15 rfl rfl)
theorem dJ7_putVal_109 : decode cJ7_putVal 109 = .ok (.ifCond .eq 22, 3) := dk_153 0 22 (dk_at dksJ7_putVal_4 18 rfl rfl)
theorem dJ7_putVal_112 : decode cJ7_putVal 112 = .ok (.aload 7, 2) := dk_25 7 (dk_at dksJ7_putVal_4 21 rfl rfl)
theorem dJ7_putVal_114 : decode cJ7_putVal 114 = .ok (.checkcast 180, 3) := dk_192 0 180 (dk_at dksJ7_putVal_5 0 rfl rfl)
theorem dJ7_putVal_117 : decode cJ7_putVal 117 = .ok (.aload_n 0, 1) := dk_42 (dk_at dksJ7_putVal_5 3 rfl rfl)
theorem dJ7_putVal_118 : decode cJ7_putVal 118 = .ok (.aload 6, 2) := dk_25 6 (dk_at dksJ7_putVal_5 4 rfl rfl)
theorem dJ7_putVal_120 : decode cJ7_putVal 120 = .ok (.iload_n 1, 1) := dk_27 (dk_at dksJ7_putVal_5 6 rfl rfl)
theorem dJ7_putVal_121 : decode cJ7_putVal 121 = .ok (.aload_n 2, 1) := dk_44 (dk_at dksJ7_putVal_5 7 rfl rfl)
theorem dJ7_putVal_122 : decode cJ7_putVal 122 = .ok (.aload_n 3, 1) := dk_45 (dk_at dksJ7_putVal_5 8 rfl rfl)
theorem dJ7_putVal_123 : decode cJ7_putVal 123 = .ok (.invokevirtual 190, 3) := dk_182 0 190 (dk_at dksJ7_putVal_5 9 rfl rfl)
theorem dJ7_putVal_126 : decode cJ7_putVal 126 = .ok (.astore 10, 2) := dk_58 10 (dk_at dksJ7_putVal_5 12 rfl rfl)
theorem dJ7_putVal_128 : decode cJ7_putVal 128 = .ok (.goto 94, 3) := dk_167 0 94 (dk_at dksJ7_putVal_5 14 rfl rfl)
theorem dJ7_putVal_131 : decode cJ7_putVal 131 = .ok (.iconst 0, 1) := dk_3 (dk_at dksJ7_putVal_5 17 rfl rfl)
theorem dJ7_putVal_132 : decode cJ7_putVal 132 = .ok (.istore 12, 2) := dk_54 12 (dk_at dksJ7_putVal_5 18 rfl rfl)
theorem dJ7_putVal_134 : decode cJ7_putVal 134 = .ok (.aload 7, 2) := dk_25 7 (dk_at dksJ7_putVal_5 20 rfl rfl)
theorem dJ7_putVal_136 : decode cJ7_putVal 136 = .ok (.getfield 177, 3) := dk_180 0 177 (dk_at dksJ7_putVal_6 0 rfl rfl)
theorem dJ7_putVal_139 : decode cJ7_putVal 139 = .ok (.dup, 1) := dk_89 (dk_at dksJ7_putVal_6 3 rfl rfl)
theorem dJ7_putVal_140 : decode cJ7_putVal 140 = .ok (.astore 10, 2) := dk_58 10 (dk_at dksJ7_putVal_6 4 rfl rfl)
theorem dJ7_putVal_142 : decode cJ7_putVal 142 = .ok (.ifnonnull 33, 3) := dk_199 0 33 (dk_at dksJ7_putVal_6 6 rfl rfl)
theorem dJ7_putVal_145 : decode cJ7_putVal 145 = .ok (.aload 7, 2) := dk_25 7 (dk_at dksJ7_putVal_6 9 rfl rfl)
theorem dJ7_putVal_147 : decode cJ7_putVal 147 = .ok (.aload_n 0, 1) := dk_42 (dk_at dksJ7_putVal_6 11 rfl rfl)
theorem dJ7_putVal_148 : decode cJ7_putVal 148 = .ok (.iload_n 1, 1) := dk_27 (dk_at dksJ7_putVal_6 12 rfl rfl)
theorem dJ7_putVal_149 : decode cJ7_putVal 149 = .ok (.aload_n 2, 1) := dk_44 (dk_at dksJ7_putVal_6 13 rfl rfl)
theorem dJ7_putVal_150 : decode cJ7_putVal 150 = .ok (.aload_n 3, 1) := dk_45 (dk_at dksJ7_putVal_6 14 rfl rfl)
theorem dJ7_putVal_151 : decode cJ7_putVal 151 = .ok (.aconst_null, 1) := dk_1 (dk_at dksJ7_putVal_6 15 rfl rfl)
theorem dJ7_putVal_152 : decode cJ7_putVal 152 = .ok (.invokevirtual 186, 3) := dk_182 0 186 (dk_at dksJ7_putVal_6 16 rfl rfl)
theorem dJ7_putVal_155 : decode cJ7_putVal 155 = .ok (.putfield 177, 3) := dk_181 0 177 (dk_at dksJ7_putVal_6 19 rfl rfl)
theorem dJ7_putVal_158 : decode cJ7_putVal 158 = .ok (.iload 12, 2) := dk_21 12 (dk_at dksJ7_putVal_6 22 rfl rfl)
theorem dJ7_putVal_160 : decode cJ7_putVal 160 = .ok (.bipush 7, 2) := dk_16 7 (dk_at dksJ7_putVal_7 0 rfl rfl)
theorem dJ7_putVal_162 : decode cJ7_putVal 162 = .ok (.if_icmp .lt 60, 3) := dk_161 0 60 (dk_at dksJ7_putVal_7 2 rfl rfl)
theorem dJ7_putVal_165 : decode cJ7_putVal 165 = .ok (.aload_n 0, 1) := dk_42 (dk_at dksJ7_putVal_7 5 rfl rfl)
theorem dJ7_putVal_166 : decode cJ7_putVal 166 = .ok (.aload 6, 2) := dk_25 6 (dk_at dksJ7_putVal_7 6 rfl rfl)
theorem dJ7_putVal_168 : decode cJ7_putVal 168 = .ok (.iload_n 1, 1) := dk_27 (dk_at dksJ7_putVal_7 8 rfl rfl)
theorem dJ7_putVal_169 : decode cJ7_putVal 169 = .ok (.invokevirtual 194, 3) := dk_182 0 194 (dk_at dksJ7_putVal_7 9 rfl rfl)
theorem dJ7_putVal_172 : decode cJ7_putVal 172 = .ok (.goto 50, 3) := dk_167 0 50 (dk_at dksJ7_putVal_7 12 rfl rfl)
theorem dJ7_putVal_175 : decode cJ7_putVal 175 = .ok (.aload 10, 2) := dk_25 10 (dk_at dksJ7_putVal_7 15 rfl rfl)
theorem dJ7_putVal_177 : decode cJ7_putVal 177 = .ok (.getfield 168, 3) := dk_180 0 168 (dk_at dksJ7_putVal_7 17 rfl rfl)
theorem dJ7_putVal_180 : decode cJ7_putVal 180 = .ok (.iload_n 1, 1) := dk_27 (dk_at dksJ7_putVal_7 20 rfl rfl)
theorem dJ7_putVal_181 : decode cJ7_putVal 181 = .ok (.if_icmp .ne 31, 3) := dk_160 0 31 (dk_at dksJ7_putVal_7 21 rfl rfl)
theorem dJ7_putVal_184 : decode cJ7_putVal 184 = .ok (.aload 10, 2) := dk_25 10 (dk_at dksJ7_putVal_8 0 rfl rfl)
theorem dJ7_putVal_186 : decode cJ7_putVal 186 = .ok (.getfield 170, 3) := dk_180 0 170 (dk_at dksJ7_putVal_8 2 rfl rfl)
theorem dJ7_putVal_189 : decode cJ7_putVal 189 = .ok (.dup, 1) := dk_89 (dk_at dksJ7_putVal_8 5 rfl rfl)
theorem dJ7_putVal_190 : decode cJ7_putVal 190 = .ok (.astore 11, 2) := dk_58 11 (dk_at dksJ7_putVal_8 6 rfl rfl)
theorem dJ7_putVal_192 : decode cJ7_putVal 192 = .ok (.aload_n 2, 1) := dk_44 (dk_at dksJ7_putVal_8 8 rfl rfl)
theorem dJ7_putVal_193 : decode cJ7_putVal 193 = .ok (.if_acmp .eq 29, 3) := dk_165 0 29 (dk_at dksJ7_putVal_8 9 rfl rfl)
theorem dJ7_putVal_196 : decode cJ7_putVal 196 = .ok (.aload_n 2, 1) := dk_44 (dk_at dksJ7_putVal_8 12 rfl rfl)
theorem dJ7_putVal_197 : decode cJ7_putVal 197 = .ok (.ifnull 15, 3) := dk_198 0 15 (dk_at dksJ7_putVal_8 13 rfl rfl)
theorem dJ7_putVal_200 : decode cJ7_putVal 200 = .ok (.aload_n 2, 1) := dk_44 (dk_at dksJ7_putVal_8 16 rfl rfl)
theorem dJ7_putVal_201 : decode cJ7_putVal 201 = .ok (.aload 11, 2) := dk_25 11 (dk_at dksJ7_putVal_8 17 rfl rfl)
theorem dJ7_putVal_203 : decode cJ7_putVal 203 = .ok (.invokevirtual 173, 3) := dk_182 0 173 (dk_at dksJ7_putVal_8 19 rfl rfl)
theorem dJ7_putVal_206 : decode cJ7_putVal 206 = .ok (.ifCond .eq 6, 3) := dk_153 0 6 (dk_at dksJ7_putVal_9 0 rfl rfl)
theorem dJ7_putVal_209 : decode cJ7_putVal 209 = .ok (.goto 13, 3) := dk_167 0 13 (dk_at dksJ7_putVal_9 3 rfl rfl)
theorem dJ7_putVal_212 : decode cJ7_putVal 212 = .ok (.aload 10, 2) := dk_25 10 (dk_at dksJ7_putVal_9 6 rfl rfl)
theorem dJ7_putVal_214 : decode cJ7_putVal 214 = .ok (.astore 7, 2) := dk_58 7 (dk_at dksJ7_putVal_9 8 rfl rfl)
theorem dJ7_putVal_216 : decode cJ7_putVal 216 = .ok (.iinc 12 1, 3) := dk_132 12 1 (dk_at dksJ7_putVal_9 10 rfl rfl)
theorem dJ7_putVal_219 : decode cJ7_putVal 219 = .ok (.goto (-85), 3) := dk_167 255 171 (dk_at dksJ7_putVal_9 13 rfl rfl)
theorem dJ7_putVal_222 : decode cJ7_putVal 222 = .ok (.aload 10, 2) := dk_25 10 (dk_at dksJ7_putVal_9 16 rfl rfl)
theorem dJ7_putVal_224 : decode cJ7_putVal 224 = .ok (.ifnull 35, 3) := dk_198 0 35 (dk_at dksJ7_putVal_9 18 rfl rfl)
theorem dJ7_putVal_227 : decode cJ7_putVal 227 = .ok (.aload 10, 2) := dk_25 10 (dk_at dksJ7_putVal_9 21 rfl rfl)
theorem dJ7_putVal_229 : decode cJ7_putVal 229 = .ok (.getfield 162, 3) := dk_180 0 162 (dk_at dksJ7_putVal_10 0 rfl rfl)
theorem dJ7_putVal_232 : decode cJ7_putVal 232 = .ok (.astore 12, 2) := dk_58 12 (dk_at dksJ7_putVal_10 3 rfl rfl)
theorem dJ7_putVal_234 : decode cJ7_putVal 234 = .ok (.iload 4, 2) := dk_21 4 (dk_at dksJ7_putVal_10 5 rfl rfl)
theorem dJ7_putVal_236 : decode cJ7_putVal 236 = .ok (.ifCond .eq 8, 3) := dk_153 0 8 (dk_at dksJ7_putVal_10 7 rfl rfl)
theorem dJ7_putVal_239 : decode cJ7_putVal 239 = .ok (.aload 12, 2) := dk_25 12 (dk_at dksJ7_putVal_10 10 rfl rfl)
theorem dJ7_putVal_241 : decode cJ7_putVal 241 = .ok (.ifnonnull 9, 3) := dk_199 0 9 (dk_at dksJ7_putVal_10 12 rfl rfl)
theorem dJ7_putVal_244 : decode cJ7_putVal 244 = .ok (.aload 10, 2) := dk_25 10 (dk_at dksJ7_putVal_10 15 rfl rfl)
theorem dJ7_putVal_246 : decode cJ7_putVal 246 = .ok (.aload_n 3, 1) := dk_45 (dk_at dksJ7_putVal_10 17 rfl rfl)
theorem dJ7_putVal_247 : decode cJ7_putVal 247 = .ok (.putfield 162, 3) := dk_181 0 162 (dk_at dksJ7_putVal_10 18 rfl rfl)
theorem dJ7_putVal_250 : decode cJ7_putVal 250 = .ok (.aload_n 0, 1) := dk_42 (dk_at dksJ7_putVal_10 21 rfl rfl)
theorem dJ7_putVal_251 : decode cJ7_putVal 251 = .ok (.aload 10, 2) := dk_25 10 (dk_at dksJ7_putVal_10 22 rfl rfl)
theorem dJ7_putVal_253 : decode cJ7_putVal 253 = .ok (.invokevirtual 198, 3) := dk_182 0 198 (dk_at dksJ7_putVal_11 0 rfl rfl)
theorem dJ7_putVal_256 : decode cJ7_putVal 256 = .ok (.aload 12, 2) := dk_25 12 (dk_at dksJ7_putVal_11 3 rfl rfl)
theorem dJ7_putVal_258 : decode cJ7_putVal 258 = .ok (.areturn, 1) := dk_176 (dk_at dksJ7_putVal_11 5 rfl rfl)
theorem dJ7_putVal_259 : decode cJ7_putVal 259 = .ok (.aload_n 0, 1) := dk_42 (dk_at dksJ7_putVal_11 6 rfl rfl)
theorem dJ7_putVal_260 : decode cJ7_putVal 260 = .ok (.dup, 1) := dk_89 (dk_at dksJ7_putVal_11 7 rfl rfl)
theorem dJ7_putVal_261 : decode cJ7_putVal 261 = .ok (.getfield 202, 3) := dk_180 0 202 (dk_at dksJ7_putVal_11 8 rfl rfl)
theorem dJ7_putVal_264 : decode cJ7_putVal 264 = .ok (.iconst 1, 1) := dk_4 (dk_at dksJ7_putVal_11 11 rfl rfl)
theorem dJ7_putVal_265 : decode cJ7_putVal 265 = .ok (.iadd, 1) := dk_96 (dk_at dksJ7_putVal_11 12 rfl rfl)
theorem dJ7_putVal_266 : decode cJ7_putVal 266 = .ok (.putfield 202, 3) := dk_181 0 202 (dk_at dksJ7_putVal_11 13 rfl rfl)
theorem dJ7_putVal_269 : decode cJ7_putVal 269 = .ok (.aload_n 0, 1) := dk_42 (dk_at dksJ7_putVal_11 16 rfl rfl)
theorem dJ7_putVal_270 : decode cJ7_putVal 270 = .ok (.dup, 1) := dk_89 (dk_at dksJ7_putVal_11 17 rfl rfl)
theorem dJ7_putVal_271 : decode cJ7_putVal 271 = .ok (.getfield 156, 3) := dk_180 0 156 (dk_at dksJ7_putVal_11 18 rfl rfl)
theorem dJ7_putVal_274 : decode cJ7_putVal 274 = .ok (.iconst 1, 1) := dk_4 (dk_at dksJ7_putVal_11 21 rfl rfl)
theorem dJ7_putVal_275 : decode cJ7_putVal 275 = .ok (.iadd, 1) := dk_96 (dk_at dksJ7_putVal_11 22 rfl rfl)
theorem dJ7_putVal_276 : decode cJ7_putVal 276 = .ok (.dup_x1, 1) := dk_90 (dk_at dksJ7_putVal_11 23 rfl rfl)
theorem dJ7_putVal_277 : decode cJ7_putVal 277 = .ok (.putfield 156, 3) := dk_181 0 156 (dk_at dksJ7_putVal_12 0 rfl rfl)
theorem dJ7_putVal_280 : decode cJ7_putVal 280 = .ok (.aload_n 0, 1) := dk_42 (dk_at dksJ7_putVal_12 3 rfl rfl)
theorem dJ7_putVal_281 : decode cJ7_putVal 281 = .ok (.getfield 88, 3) := dk_180 0 88 (dk_at dksJ7_putVal_12 4 rfl rfl)
theorem dJ7_putVal_284 : decode cJ7_putVal 284 = .ok (.if_icmp .le 8, 3) := dk_164 0 8 (dk_at dksJ7_putVal_12 7 rfl rfl)
theorem dJ7_putVal_287 : decode cJ7_putVal 287 = .ok (.aload_n 0, 1) := dk_42 (dk_at dksJ7_putVal_12 10 rfl rfl)
theorem dJ7_putVal_288 : decode cJ7_putVal 288 = .ok (.invokevirtual 117, 3) := dk_182 0 117 (dk_at dksJ7_putVal_12 11 rfl rfl)
theorem dJ7_putVal_291 : decode cJ7_putVal 291 = .ok (.pop, 1) := dk_87 (dk_at dksJ7_putVal_12 14 rfl rfl)
theorem dJ7_putVal_292 : decode cJ7_putVal 292 = .ok (.aload_n 0, 1) := dk_42 (dk_at dksJ7_putVal_12 15 rfl rfl)
theorem dJ7_putVal_293 : decode cJ7_putVal 293 = .ok (.iload 5, 2) := dk_21 5 (dk_at dksJ7_putVal_12 16 rfl rfl)
theorem dJ7_putVal_295 : decode cJ7_putVal 295 = .ok (.invokevirtual 205, 3) := dk_182 0 205 (dk_at dksJ7_putVal_12 18 rfl rfl)
theorem dJ7_putVal_298 : decode cJ7_putVal 298 = .ok (.aconst_null, 1) := dk_1 (dk_at dksJ7_putVal_12 21 rfl rfl)
theorem dJ7_putVal_299 : decode cJ7_putVal 299 = .ok (.areturn, 1) := dk_176 (dk_at dksJ7_putVal_12 22 rfl rfl)
abbrev cJ7_resize : ByteArray := prog_56_method_17_code
def yJ7_resize : MethodName := ⟨RJ7, "resize", "()[Ljava/util/HashMap$Node;"⟩
def dkwJ7_resize_15 : List UInt8 := [25, 6, 176]
abbrev dktJ7_resize_15 : List UInt8 := dkwJ7_resize_15 ++ []
def dkwJ7_resize_14 : List UInt8 := [198, 0, 18, 25, 12, 1, 181, 0, 177, 25, 6, 21, 7, 28, 96, 25, 11, 83, 132, 7, 1, 167, 255, 57]
abbrev dktJ7_resize_14 : List UInt8 := dkwJ7_resize_14 ++ dktJ7_resize_15
def dkwJ7_resize_13 : List UInt8 := [199, 255, 185, 25, 10, 198, 0, 16, 25, 10, 1, 181, 0, 177, 25, 6, 21, 7, 25, 9, 83, 25, 12]
abbrev dktJ7_resize_13 : List UInt8 := dkwJ7_resize_13 ++ dktJ7_resize_14
def dkwJ7_resize_12 : List UInt8 := [25, 8, 58, 11, 167, 0, 10, 25, 12, 25, 8, 181, 0, 177, 25, 8, 58, 12, 25, 13, 89, 58, 8]
abbrev dktJ7_resize_12 : List UInt8 := dkwJ7_resize_12 ++ dktJ7_resize_13
def dkwJ7_resize_11 : List UInt8 := [58, 9, 167, 0, 10, 25, 10, 25, 8, 181, 0, 177, 25, 8, 58, 10, 167, 0, 26, 25, 12, 199, 0, 10]
abbrev dktJ7_resize_11 : List UInt8 := dkwJ7_resize_11 ++ dktJ7_resize_12
def dkwJ7_resize_10 : List UInt8 := [25, 8, 180, 0, 177, 58, 13, 25, 8, 180, 0, 168, 28, 126, 154, 0, 29, 25, 10, 199, 0, 10, 25, 8]
abbrev dktJ7_resize_10 : List UInt8 := dkwJ7_resize_10 ++ dktJ7_resize_11
def dkwJ7_resize_9 : List UInt8 := [42, 25, 6, 21, 7, 28, 182, 0, 211, 167, 0, 127, 1, 58, 9, 1, 58, 10, 1, 58, 11, 1, 58, 12]
abbrev dktJ7_resize_9 : List UInt8 := dkwJ7_resize_9 ++ dktJ7_resize_10
def dkwJ7_resize_8 : List UInt8 := [21, 4, 4, 100, 126, 25, 8, 83, 167, 0, 152, 25, 8, 193, 0, 180, 153, 0, 20, 25, 8, 192, 0, 180]
abbrev dktJ7_resize_8 : List UInt8 := dkwJ7_resize_8 ++ dktJ7_resize_9
def dkwJ7_resize_7 : List UInt8 := [198, 0, 183, 43, 21, 7, 1, 83, 25, 8, 180, 0, 177, 199, 0, 21, 25, 6, 25, 8, 180, 0, 168]
abbrev dktJ7_resize_7 : List UInt8 := dkwJ7_resize_7 ++ dktJ7_resize_8
def dkwJ7_resize_6 : List UInt8 := [181, 0, 105, 43, 198, 0, 208, 3, 54, 7, 21, 7, 28, 162, 0, 199, 43, 21, 7, 50, 89, 58, 8]
abbrev dktJ7_resize_6 : List UInt8 := dkwJ7_resize_6 ++ dktJ7_resize_7
def dkwJ7_resize_5 : List UInt8 := [167, 0, 5, 18, 209, 54, 5, 42, 21, 5, 181, 0, 88, 21, 4, 189, 0, 163, 58, 6, 42, 25, 6]
abbrev dktJ7_resize_5 : List UInt8 := dkwJ7_resize_5 ++ dktJ7_resize_6
def dkwJ7_resize_4 : List UInt8 := [180, 0, 81, 106, 56, 6, 21, 4, 18, 42, 162, 0, 17, 23, 6, 18, 210, 150, 156, 0, 9, 23, 6, 139]
abbrev dktJ7_resize_4 : List UInt8 := dkwJ7_resize_4 ++ dktJ7_resize_5
def dkwJ7_resize_3 : List UInt8 := [54, 4, 167, 0, 11, 16, 16, 54, 4, 16, 12, 54, 5, 21, 5, 154, 0, 38, 21, 4, 134, 42]
abbrev dktJ7_resize_3 : List UInt8 := dkwJ7_resize_3 ++ dktJ7_resize_4
def dkwJ7_resize_2 : List UInt8 := [18, 42, 162, 0, 35, 28, 16, 16, 161, 0, 29, 29, 4, 120, 54, 5, 167, 0, 21, 29, 158, 0, 9, 29]
abbrev dktJ7_resize_2 : List UInt8 := dkwJ7_resize_2 ++ dktJ7_resize_3
def dkwJ7_resize_1 : List UInt8 := [28, 158, 0, 42, 28, 18, 42, 161, 0, 11, 42, 18, 209, 181, 0, 88, 43, 176, 28, 4, 120, 89, 54, 4]
abbrev dktJ7_resize_1 : List UInt8 := dkwJ7_resize_1 ++ dktJ7_resize_2
def dkwJ7_resize_0 : List UInt8 := [42, 180, 0, 105, 76, 43, 199, 0, 7, 3, 167, 0, 5, 43, 190, 61, 42, 180, 0, 88, 62, 3, 54, 5]
abbrev dktJ7_resize_0 : List UInt8 := dkwJ7_resize_0 ++ dktJ7_resize_1
theorem dksJ7_resize_0 : cJ7_resize.data.toList.drop 0 = dktJ7_resize_0 := by decide +kernel
theorem dksJ7_resize_1 : cJ7_resize.data.toList.drop 24 = dktJ7_resize_1 := dk_seg dksJ7_resize_0 24 rfl rfl
theorem dksJ7_resize_2 : cJ7_resize.data.toList.drop 48 = dktJ7_resize_2 := dk_seg dksJ7_resize_1 24 rfl rfl
theorem dksJ7_resize_3 : cJ7_resize.data.toList.drop 72 = dktJ7_resize_3 := dk_seg dksJ7_resize_2 24 rfl rfl
theorem dksJ7_resize_4 : cJ7_resize.data.toList.drop 94 = dktJ7_resize_4 := dk_seg dksJ7_resize_3 22 rfl rfl
theorem dksJ7_resize_5 : cJ7_resize.data.toList.drop 118 = dktJ7_resize_5 := dk_seg dksJ7_resize_4 24 rfl rfl
theorem dksJ7_resize_6 : cJ7_resize.data.toList.drop 141 = dktJ7_resize_6 := dk_seg dksJ7_resize_5 23 rfl rfl
theorem dksJ7_resize_7 : cJ7_resize.data.toList.drop 164 = dktJ7_resize_7 := dk_seg dksJ7_resize_6 23 rfl rfl
theorem dksJ7_resize_8 : cJ7_resize.data.toList.drop 187 = dktJ7_resize_8 := dk_seg dksJ7_resize_7 23 rfl rfl
theorem dksJ7_resize_9 : cJ7_resize.data.toList.drop 211 = dktJ7_resize_9 := dk_seg dksJ7_resize_8 24 rfl rfl
theorem dksJ7_resize_10 : cJ7_resize.data.toList.drop 235 = dktJ7_resize_10 := dk_seg dksJ7_resize_9 24 rfl rfl
theorem dksJ7_resize_11 : cJ7_resize.data.toList.drop 259 = dktJ7_resize_11 := dk_seg dksJ7_resize_10 24 rfl rfl
theorem dksJ7_resize_12 : cJ7_resize.data.toList.drop 283 = dktJ7_resize_12 := dk_seg dksJ7_resize_11 24 rfl rfl
theorem dksJ7_resize_13 : cJ7_resize.data.toList.drop 306 = dktJ7_resize_13 := dk_seg dksJ7_resize_12 23 rfl rfl
theorem dksJ7_resize_14 : cJ7_resize.data.toList.drop 329 = dktJ7_resize_14 := dk_seg dksJ7_resize_13 23 rfl rfl
theorem dksJ7_resize_15 : cJ7_resize.data.toList.drop 353 = dktJ7_resize_15 := dk_seg dksJ7_resize_14 24 rfl rfl
theorem dJ7_resize_0 : decode cJ7_resize 0 = .ok (.aload_n 0, 1) := dk_42 (dk_at dksJ7_resize_0 0 rfl rfl)
theorem dJ7_resize_1 : decode cJ7_resize 1 = .ok (.getfield 105, 3) := dk_180 0 105 (dk_at dksJ7_resize_0 1 rfl rfl)
theorem dJ7_resize_4 : decode cJ7_resize 4 = .ok (.astore_n 1, 1) := dk_76 (dk_at dksJ7_resize_0 4 rfl rfl)
theorem dJ7_resize_5 : decode cJ7_resize 5 = .ok (.aload_n 1, 1) := dk_43 (dk_at dksJ7_resize_0 5 rfl rfl)
theorem dJ7_resize_6 : decode cJ7_resize 6 = .ok (.ifnonnull 7, 3) := dk_199 0 7 (dk_at dksJ7_resize_0 6 rfl rfl)
theorem dJ7_resize_9 : decode cJ7_resize 9 = .ok (.iconst 0, 1) := dk_3 (dk_at dksJ7_resize_0 9 rfl rfl)
theorem dJ7_resize_10 : decode cJ7_resize 10 = .ok (.goto 5, 3) := dk_167 0 5 (dk_at dksJ7_resize_0 10 rfl rfl)
theorem dJ7_resize_13 : decode cJ7_resize 13 = .ok (.aload_n 1, 1) := dk_43 (dk_at dksJ7_resize_0 13 rfl rfl)
theorem dJ7_resize_14 : decode cJ7_resize 14 = .ok (.arraylength, 1) := dk_190 (dk_at dksJ7_resize_0 14 rfl rfl)
theorem dJ7_resize_15 : decode cJ7_resize 15 = .ok (.istore_n 2, 1) := dk_61 (dk_at dksJ7_resize_0 15 rfl rfl)
theorem dJ7_resize_16 : decode cJ7_resize 16 = .ok (.aload_n 0, 1) := dk_42 (dk_at dksJ7_resize_0 16 rfl rfl)
theorem dJ7_resize_17 : decode cJ7_resize 17 = .ok (.getfield 88, 3) := dk_180 0 88 (dk_at dksJ7_resize_0 17 rfl rfl)
theorem dJ7_resize_20 : decode cJ7_resize 20 = .ok (.istore_n 3, 1) := dk_62 (dk_at dksJ7_resize_0 20 rfl rfl)
theorem dJ7_resize_21 : decode cJ7_resize 21 = .ok (.iconst 0, 1) := dk_3 (dk_at dksJ7_resize_0 21 rfl rfl)
theorem dJ7_resize_22 : decode cJ7_resize 22 = .ok (.istore 5, 2) := dk_54 5 (dk_at dksJ7_resize_0 22 rfl rfl)
theorem dJ7_resize_24 : decode cJ7_resize 24 = .ok (.iload_n 2, 1) := dk_28 (dk_at dksJ7_resize_1 0 rfl rfl)
theorem dJ7_resize_25 : decode cJ7_resize 25 = .ok (.ifCond .le 42, 3) := dk_158 0 42 (dk_at dksJ7_resize_1 1 rfl rfl)
theorem dJ7_resize_28 : decode cJ7_resize 28 = .ok (.iload_n 2, 1) := dk_28 (dk_at dksJ7_resize_1 4 rfl rfl)
theorem dJ7_resize_29 : decode cJ7_resize 29 = .ok (.ldc 42, 2) := dk_18 42 (dk_at dksJ7_resize_1 5 rfl rfl)
theorem dJ7_resize_31 : decode cJ7_resize 31 = .ok (.if_icmp .lt 11, 3) := dk_161 0 11 (dk_at dksJ7_resize_1 7 rfl rfl)
theorem dJ7_resize_34 : decode cJ7_resize 34 = .ok (.aload_n 0, 1) := dk_42 (dk_at dksJ7_resize_1 10 rfl rfl)
theorem dJ7_resize_35 : decode cJ7_resize 35 = .ok (.ldc 209, 2) := dk_18 209 (dk_at dksJ7_resize_1 11 rfl rfl)
theorem dJ7_resize_37 : decode cJ7_resize 37 = .ok (.putfield 88, 3) := dk_181 0 88 (dk_at dksJ7_resize_1 13 rfl rfl)
theorem dJ7_resize_40 : decode cJ7_resize 40 = .ok (.aload_n 1, 1) := dk_43 (dk_at dksJ7_resize_1 16 rfl rfl)
theorem dJ7_resize_41 : decode cJ7_resize 41 = .ok (.areturn, 1) := dk_176 (dk_at dksJ7_resize_1 17 rfl rfl)
theorem dJ7_resize_42 : decode cJ7_resize 42 = .ok (.iload_n 2, 1) := dk_28 (dk_at dksJ7_resize_1 18 rfl rfl)
theorem dJ7_resize_43 : decode cJ7_resize 43 = .ok (.iconst 1, 1) := dk_4 (dk_at dksJ7_resize_1 19 rfl rfl)
theorem dJ7_resize_44 : decode cJ7_resize 44 = .ok (.ishl, 1) := dk_120 (dk_at dksJ7_resize_1 20 rfl rfl)
theorem dJ7_resize_45 : decode cJ7_resize 45 = .ok (.dup, 1) := dk_89 (dk_at dksJ7_resize_1 21 rfl rfl)
theorem dJ7_resize_46 : decode cJ7_resize 46 = .ok (.istore 4, 2) := dk_54 4 (dk_at dksJ7_resize_1 22 rfl rfl)
theorem dJ7_resize_48 : decode cJ7_resize 48 = .ok (.ldc 42, 2) := dk_18 42 (dk_at dksJ7_resize_2 0 rfl rfl)
theorem dJ7_resize_50 : decode cJ7_resize 50 = .ok (.if_icmp .ge 35, 3) := dk_162 0 35 (dk_at dksJ7_resize_2 2 rfl rfl)
theorem dJ7_resize_53 : decode cJ7_resize 53 = .ok (.iload_n 2, 1) := dk_28 (dk_at dksJ7_resize_2 5 rfl rfl)
theorem dJ7_resize_54 : decode cJ7_resize 54 = .ok (.bipush 16, 2) := dk_16 16 (dk_at dksJ7_resize_2 6 rfl rfl)
theorem dJ7_resize_56 : decode cJ7_resize 56 = .ok (.if_icmp .lt 29, 3) := dk_161 0 29 (dk_at dksJ7_resize_2 8 rfl rfl)
theorem dJ7_resize_59 : decode cJ7_resize 59 = .ok (.iload_n 3, 1) := dk_29 (dk_at dksJ7_resize_2 11 rfl rfl)
theorem dJ7_resize_60 : decode cJ7_resize 60 = .ok (.iconst 1, 1) := dk_4 (dk_at dksJ7_resize_2 12 rfl rfl)
theorem dJ7_resize_61 : decode cJ7_resize 61 = .ok (.ishl, 1) := dk_120 (dk_at dksJ7_resize_2 13 rfl rfl)
theorem dJ7_resize_62 : decode cJ7_resize 62 = .ok (.istore 5, 2) := dk_54 5 (dk_at dksJ7_resize_2 14 rfl rfl)
theorem dJ7_resize_64 : decode cJ7_resize 64 = .ok (.goto 21, 3) := dk_167 0 21 (dk_at dksJ7_resize_2 16 rfl rfl)
theorem dJ7_resize_67 : decode cJ7_resize 67 = .ok (.iload_n 3, 1) := dk_29 (dk_at dksJ7_resize_2 19 rfl rfl)
theorem dJ7_resize_68 : decode cJ7_resize 68 = .ok (.ifCond .le 9, 3) := dk_158 0 9 (dk_at dksJ7_resize_2 20 rfl rfl)
theorem dJ7_resize_71 : decode cJ7_resize 71 = .ok (.iload_n 3, 1) := dk_29 (dk_at dksJ7_resize_2 23 rfl rfl)
theorem dJ7_resize_72 : decode cJ7_resize 72 = .ok (.istore 4, 2) := dk_54 4 (dk_at dksJ7_resize_3 0 rfl rfl)
theorem dJ7_resize_74 : decode cJ7_resize 74 = .ok (.goto 11, 3) := dk_167 0 11 (dk_at dksJ7_resize_3 2 rfl rfl)
theorem dJ7_resize_77 : decode cJ7_resize 77 = .ok (.bipush 16, 2) := dk_16 16 (dk_at dksJ7_resize_3 5 rfl rfl)
theorem dJ7_resize_79 : decode cJ7_resize 79 = .ok (.istore 4, 2) := dk_54 4 (dk_at dksJ7_resize_3 7 rfl rfl)
theorem dJ7_resize_81 : decode cJ7_resize 81 = .ok (.bipush 12, 2) := dk_16 12 (dk_at dksJ7_resize_3 9 rfl rfl)
theorem dJ7_resize_83 : decode cJ7_resize 83 = .ok (.istore 5, 2) := dk_54 5 (dk_at dksJ7_resize_3 11 rfl rfl)
theorem dJ7_resize_85 : decode cJ7_resize 85 = .ok (.iload 5, 2) := dk_21 5 (dk_at dksJ7_resize_3 13 rfl rfl)
theorem dJ7_resize_87 : decode cJ7_resize 87 = .ok (.ifCond .ne 38, 3) := dk_154 0 38 (dk_at dksJ7_resize_3 15 rfl rfl)
theorem dJ7_resize_90 : decode cJ7_resize 90 = .ok (.iload 4, 2) := dk_21 4 (dk_at dksJ7_resize_3 18 rfl rfl)
theorem dJ7_resize_92 : decode cJ7_resize 92 = .ok (.i2f, 1) := dk_134 (dk_at dksJ7_resize_3 20 rfl rfl)
theorem dJ7_resize_93 : decode cJ7_resize 93 = .ok (.aload_n 0, 1) := dk_42 (dk_at dksJ7_resize_3 21 rfl rfl)
theorem dJ7_resize_94 : decode cJ7_resize 94 = .ok (.getfield 81, 3) := dk_180 0 81 (dk_at dksJ7_resize_4 0 rfl rfl)
theorem dJ7_resize_97 : decode cJ7_resize 97 = .ok (.fmul, 1) := dk_106 (dk_at dksJ7_resize_4 3 rfl rfl)
theorem dJ7_resize_98 : decode cJ7_resize 98 = .ok (.fstore 6, 2) := dk_56 6 (dk_at dksJ7_resize_4 4 rfl rfl)
theorem dJ7_resize_100 : decode cJ7_resize 100 = .ok (.iload 4, 2) := dk_21 4 (dk_at dksJ7_resize_4 6 rfl rfl)
theorem dJ7_resize_102 : decode cJ7_resize 102 = .ok (.ldc 42, 2) := dk_18 42 (dk_at dksJ7_resize_4 8 rfl rfl)
theorem dJ7_resize_104 : decode cJ7_resize 104 = .ok (.if_icmp .ge 17, 3) := dk_162 0 17 (dk_at dksJ7_resize_4 10 rfl rfl)
theorem dJ7_resize_107 : decode cJ7_resize 107 = .ok (.fload 6, 2) := dk_23 6 (dk_at dksJ7_resize_4 13 rfl rfl)
theorem dJ7_resize_109 : decode cJ7_resize 109 = .ok (.ldc 210, 2) := dk_18 210 (dk_at dksJ7_resize_4 15 rfl rfl)
theorem dJ7_resize_111 : decode cJ7_resize 111 = .ok (.fcmp .g, 1) := dk_150 (dk_at dksJ7_resize_4 17 rfl rfl)
theorem dJ7_resize_112 : decode cJ7_resize 112 = .ok (.ifCond .ge 9, 3) := dk_156 0 9 (dk_at dksJ7_resize_4 18 rfl rfl)
theorem dJ7_resize_115 : decode cJ7_resize 115 = .ok (.fload 6, 2) := dk_23 6 (dk_at dksJ7_resize_4 21 rfl rfl)
theorem dJ7_resize_117 : decode cJ7_resize 117 = .ok (.f2i, 1) := dk_139 (dk_at dksJ7_resize_4 23 rfl rfl)
theorem dJ7_resize_118 : decode cJ7_resize 118 = .ok (.goto 5, 3) := dk_167 0 5 (dk_at dksJ7_resize_5 0 rfl rfl)
theorem dJ7_resize_121 : decode cJ7_resize 121 = .ok (.ldc 209, 2) := dk_18 209 (dk_at dksJ7_resize_5 3 rfl rfl)
theorem dJ7_resize_123 : decode cJ7_resize 123 = .ok (.istore 5, 2) := dk_54 5 (dk_at dksJ7_resize_5 5 rfl rfl)
theorem dJ7_resize_125 : decode cJ7_resize 125 = .ok (.aload_n 0, 1) := dk_42 (dk_at dksJ7_resize_5 7 rfl rfl)
theorem dJ7_resize_126 : decode cJ7_resize 126 = .ok (.iload 5, 2) := dk_21 5 (dk_at dksJ7_resize_5 8 rfl rfl)
theorem dJ7_resize_128 : decode cJ7_resize 128 = .ok (.putfield 88, 3) := dk_181 0 88 (dk_at dksJ7_resize_5 10 rfl rfl)
theorem dJ7_resize_131 : decode cJ7_resize 131 = .ok (.iload 4, 2) := dk_21 4 (dk_at dksJ7_resize_5 13 rfl rfl)
theorem dJ7_resize_133 : decode cJ7_resize 133 = .ok (.anewarray 163, 3) := dk_189 0 163 (dk_at dksJ7_resize_5 15 rfl rfl)
theorem dJ7_resize_136 : decode cJ7_resize 136 = .ok (.astore 6, 2) := dk_58 6 (dk_at dksJ7_resize_5 18 rfl rfl)
theorem dJ7_resize_138 : decode cJ7_resize 138 = .ok (.aload_n 0, 1) := dk_42 (dk_at dksJ7_resize_5 20 rfl rfl)
theorem dJ7_resize_139 : decode cJ7_resize 139 = .ok (.aload 6, 2) := dk_25 6 (dk_at dksJ7_resize_5 21 rfl rfl)
theorem dJ7_resize_141 : decode cJ7_resize 141 = .ok (.putfield 105, 3) := dk_181 0 105 (dk_at dksJ7_resize_6 0 rfl rfl)
theorem dJ7_resize_144 : decode cJ7_resize 144 = .ok (.aload_n 1, 1) := dk_43 (dk_at dksJ7_resize_6 3 rfl rfl)
theorem dJ7_resize_145 : decode cJ7_resize 145 = .ok (.ifnull 208, 3) := dk_198 0 208 (dk_at dksJ7_resize_6 4 rfl rfl)
theorem dJ7_resize_148 : decode cJ7_resize 148 = .ok (.iconst 0, 1) := dk_3 (dk_at dksJ7_resize_6 7 rfl rfl)
theorem dJ7_resize_149 : decode cJ7_resize 149 = .ok (.istore 7, 2) := dk_54 7 (dk_at dksJ7_resize_6 8 rfl rfl)
theorem dJ7_resize_151 : decode cJ7_resize 151 = .ok (.iload 7, 2) := dk_21 7 (dk_at dksJ7_resize_6 10 rfl rfl)
theorem dJ7_resize_153 : decode cJ7_resize 153 = .ok (.iload_n 2, 1) := dk_28 (dk_at dksJ7_resize_6 12 rfl rfl)
theorem dJ7_resize_154 : decode cJ7_resize 154 = .ok (.if_icmp .ge 199, 3) := dk_162 0 199 (dk_at dksJ7_resize_6 13 rfl rfl)
theorem dJ7_resize_157 : decode cJ7_resize 157 = .ok (.aload_n 1, 1) := dk_43 (dk_at dksJ7_resize_6 16 rfl rfl)
theorem dJ7_resize_158 : decode cJ7_resize 158 = .ok (.iload 7, 2) := dk_21 7 (dk_at dksJ7_resize_6 17 rfl rfl)
theorem dJ7_resize_160 : decode cJ7_resize 160 = .ok (.aaload, 1) := dk_50 (dk_at dksJ7_resize_6 19 rfl rfl)
theorem dJ7_resize_161 : decode cJ7_resize 161 = .ok (.dup, 1) := dk_89 (dk_at dksJ7_resize_6 20 rfl rfl)
theorem dJ7_resize_162 : decode cJ7_resize 162 = .ok (.astore 8, 2) := dk_58 8 (dk_at dksJ7_resize_6 21 rfl rfl)
theorem dJ7_resize_164 : decode cJ7_resize 164 = .ok (.ifnull 183, 3) := dk_198 0 183 (dk_at dksJ7_resize_7 0 rfl rfl)
theorem dJ7_resize_167 : decode cJ7_resize 167 = .ok (.aload_n 1, 1) := dk_43 (dk_at dksJ7_resize_7 3 rfl rfl)
theorem dJ7_resize_168 : decode cJ7_resize 168 = .ok (.iload 7, 2) := dk_21 7 (dk_at dksJ7_resize_7 4 rfl rfl)
theorem dJ7_resize_170 : decode cJ7_resize 170 = .ok (.aconst_null, 1) := dk_1 (dk_at dksJ7_resize_7 6 rfl rfl)
theorem dJ7_resize_171 : decode cJ7_resize 171 = .ok (.aastore, 1) := dk_83 (dk_at dksJ7_resize_7 7 rfl rfl)
theorem dJ7_resize_172 : decode cJ7_resize 172 = .ok (.aload 8, 2) := dk_25 8 (dk_at dksJ7_resize_7 8 rfl rfl)
theorem dJ7_resize_174 : decode cJ7_resize 174 = .ok (.getfield 177, 3) := dk_180 0 177 (dk_at dksJ7_resize_7 10 rfl rfl)
theorem dJ7_resize_177 : decode cJ7_resize 177 = .ok (.ifnonnull 21, 3) := dk_199 0 21 (dk_at dksJ7_resize_7 13 rfl rfl)
theorem dJ7_resize_180 : decode cJ7_resize 180 = .ok (.aload 6, 2) := dk_25 6 (dk_at dksJ7_resize_7 16 rfl rfl)
theorem dJ7_resize_182 : decode cJ7_resize 182 = .ok (.aload 8, 2) := dk_25 8 (dk_at dksJ7_resize_7 18 rfl rfl)
theorem dJ7_resize_184 : decode cJ7_resize 184 = .ok (.getfield 168, 3) := dk_180 0 168 (dk_at dksJ7_resize_7 20 rfl rfl)
theorem dJ7_resize_187 : decode cJ7_resize 187 = .ok (.iload 4, 2) := dk_21 4 (dk_at dksJ7_resize_8 0 rfl rfl)
theorem dJ7_resize_189 : decode cJ7_resize 189 = .ok (.iconst 1, 1) := dk_4 (dk_at dksJ7_resize_8 2 rfl rfl)
theorem dJ7_resize_190 : decode cJ7_resize 190 = .ok (.isub, 1) := dk_100 (dk_at dksJ7_resize_8 3 rfl rfl)
theorem dJ7_resize_191 : decode cJ7_resize 191 = .ok (.iand, 1) := dk_126 (dk_at dksJ7_resize_8 4 rfl rfl)
theorem dJ7_resize_192 : decode cJ7_resize 192 = .ok (.aload 8, 2) := dk_25 8 (dk_at dksJ7_resize_8 5 rfl rfl)
theorem dJ7_resize_194 : decode cJ7_resize 194 = .ok (.aastore, 1) := dk_83 (dk_at dksJ7_resize_8 7 rfl rfl)
theorem dJ7_resize_195 : decode cJ7_resize 195 = .ok (.goto 152, 3) := dk_167 0 152 (dk_at dksJ7_resize_8 8 rfl rfl)
theorem dJ7_resize_198 : decode cJ7_resize 198 = .ok (.aload 8, 2) := dk_25 8 (dk_at dksJ7_resize_8 11 rfl rfl)
theorem dJ7_resize_200 : decode cJ7_resize 200 = .ok (.instanceof 180, 3) := dk_193 0 180 (dk_at dksJ7_resize_8 13 rfl rfl)
theorem dJ7_resize_203 : decode cJ7_resize 203 = .ok (.ifCond .eq 20, 3) := dk_153 0 20 (dk_at dksJ7_resize_8 16 rfl rfl)
theorem dJ7_resize_206 : decode cJ7_resize 206 = .ok (.aload 8, 2) := dk_25 8 (dk_at dksJ7_resize_8 19 rfl rfl)
theorem dJ7_resize_208 : decode cJ7_resize 208 = .ok (.checkcast 180, 3) := dk_192 0 180 (dk_at dksJ7_resize_8 21 rfl rfl)
theorem dJ7_resize_211 : decode cJ7_resize 211 = .ok (.aload_n 0, 1) := dk_42 (dk_at dksJ7_resize_9 0 rfl rfl)
theorem dJ7_resize_212 : decode cJ7_resize 212 = .ok (.aload 6, 2) := dk_25 6 (dk_at dksJ7_resize_9 1 rfl rfl)
theorem dJ7_resize_214 : decode cJ7_resize 214 = .ok (.iload 7, 2) := dk_21 7 (dk_at dksJ7_resize_9 3 rfl rfl)
theorem dJ7_resize_216 : decode cJ7_resize 216 = .ok (.iload_n 2, 1) := dk_28 (dk_at dksJ7_resize_9 5 rfl rfl)
theorem dJ7_resize_217 : decode cJ7_resize 217 = .ok (.invokevirtual 211, 3) := dk_182 0 211 (dk_at dksJ7_resize_9 6 rfl rfl)
theorem dJ7_resize_220 : decode cJ7_resize 220 = .ok (.goto 127, 3) := dk_167 0 127 (dk_at dksJ7_resize_9 9 rfl rfl)
theorem dJ7_resize_223 : decode cJ7_resize 223 = .ok (.aconst_null, 1) := dk_1 (dk_at dksJ7_resize_9 12 rfl rfl)
theorem dJ7_resize_224 : decode cJ7_resize 224 = .ok (.astore 9, 2) := dk_58 9 (dk_at dksJ7_resize_9 13 rfl rfl)
theorem dJ7_resize_226 : decode cJ7_resize 226 = .ok (.aconst_null, 1) := dk_1 (dk_at dksJ7_resize_9 15 rfl rfl)
theorem dJ7_resize_227 : decode cJ7_resize 227 = .ok (.astore 10, 2) := dk_58 10 (dk_at dksJ7_resize_9 16 rfl rfl)
theorem dJ7_resize_229 : decode cJ7_resize 229 = .ok (.aconst_null, 1) := dk_1 (dk_at dksJ7_resize_9 18 rfl rfl)
theorem dJ7_resize_230 : decode cJ7_resize 230 = .ok (.astore 11, 2) := dk_58 11 (dk_at dksJ7_resize_9 19 rfl rfl)
theorem dJ7_resize_232 : decode cJ7_resize 232 = .ok (.aconst_null, 1) := dk_1 (dk_at dksJ7_resize_9 21 rfl rfl)
theorem dJ7_resize_233 : decode cJ7_resize 233 = .ok (.astore 12, 2) := dk_58 12 (dk_at dksJ7_resize_9 22 rfl rfl)
theorem dJ7_resize_235 : decode cJ7_resize 235 = .ok (.aload 8, 2) := dk_25 8 (dk_at dksJ7_resize_10 0 rfl rfl)
theorem dJ7_resize_237 : decode cJ7_resize 237 = .ok (.getfield 177, 3) := dk_180 0 177 (dk_at dksJ7_resize_10 2 rfl rfl)
theorem dJ7_resize_240 : decode cJ7_resize 240 = .ok (.astore 13, 2) := dk_58 13 (dk_at dksJ7_resize_10 5 rfl rfl)
theorem dJ7_resize_242 : decode cJ7_resize 242 = .ok (.aload 8, 2) := dk_25 8 (dk_at dksJ7_resize_10 7 rfl rfl)
theorem dJ7_resize_244 : decode cJ7_resize 244 = .ok (.getfield 168, 3) := dk_180 0 168 (dk_at dksJ7_resize_10 9 rfl rfl)
theorem dJ7_resize_247 : decode cJ7_resize 247 = .ok (.iload_n 2, 1) := dk_28 (dk_at dksJ7_resize_10 12 rfl rfl)
theorem dJ7_resize_248 : decode cJ7_resize 248 = .ok (.iand, 1) := dk_126 (dk_at dksJ7_resize_10 13 rfl rfl)
theorem dJ7_resize_249 : decode cJ7_resize 249 = .ok (.ifCond .ne 29, 3) := dk_154 0 29 (dk_at dksJ7_resize_10 14 rfl rfl)
theorem dJ7_resize_252 : decode cJ7_resize 252 = .ok (.aload 10, 2) := dk_25 10 (dk_at dksJ7_resize_10 17 rfl rfl)
theorem dJ7_resize_254 : decode cJ7_resize 254 = .ok (.ifnonnull 10, 3) := dk_199 0 10 (dk_at dksJ7_resize_10 19 rfl rfl)
theorem dJ7_resize_257 : decode cJ7_resize 257 = .ok (.aload 8, 2) := dk_25 8 (dk_at dksJ7_resize_10 22 rfl rfl)
theorem dJ7_resize_259 : decode cJ7_resize 259 = .ok (.astore 9, 2) := dk_58 9 (dk_at dksJ7_resize_11 0 rfl rfl)
theorem dJ7_resize_261 : decode cJ7_resize 261 = .ok (.goto 10, 3) := dk_167 0 10 (dk_at dksJ7_resize_11 2 rfl rfl)
theorem dJ7_resize_264 : decode cJ7_resize 264 = .ok (.aload 10, 2) := dk_25 10 (dk_at dksJ7_resize_11 5 rfl rfl)
theorem dJ7_resize_266 : decode cJ7_resize 266 = .ok (.aload 8, 2) := dk_25 8 (dk_at dksJ7_resize_11 7 rfl rfl)
theorem dJ7_resize_268 : decode cJ7_resize 268 = .ok (.putfield 177, 3) := dk_181 0 177 (dk_at dksJ7_resize_11 9 rfl rfl)
theorem dJ7_resize_271 : decode cJ7_resize 271 = .ok (.aload 8, 2) := dk_25 8 (dk_at dksJ7_resize_11 12 rfl rfl)
theorem dJ7_resize_273 : decode cJ7_resize 273 = .ok (.astore 10, 2) := dk_58 10 (dk_at dksJ7_resize_11 14 rfl rfl)
theorem dJ7_resize_275 : decode cJ7_resize 275 = .ok (.goto 26, 3) := dk_167 0 26 (dk_at dksJ7_resize_11 16 rfl rfl)
theorem dJ7_resize_278 : decode cJ7_resize 278 = .ok (.aload 12, 2) := dk_25 12 (dk_at dksJ7_resize_11 19 rfl rfl)
theorem dJ7_resize_280 : decode cJ7_resize 280 = .ok (.ifnonnull 10, 3) := dk_199 0 10 (dk_at dksJ7_resize_11 21 rfl rfl)
theorem dJ7_resize_283 : decode cJ7_resize 283 = .ok (.aload 8, 2) := dk_25 8 (dk_at dksJ7_resize_12 0 rfl rfl)
theorem dJ7_resize_285 : decode cJ7_resize 285 = .ok (.astore 11, 2) := dk_58 11 (dk_at dksJ7_resize_12 2 rfl rfl)
theorem dJ7_resize_287 : decode cJ7_resize 287 = .ok (.goto 10, 3) := dk_167 0 10 (dk_at dksJ7_resize_12 4 rfl rfl)
theorem dJ7_resize_290 : decode cJ7_resize 290 = .ok (.aload 12, 2) := dk_25 12 (dk_at dksJ7_resize_12 7 rfl rfl)
theorem dJ7_resize_292 : decode cJ7_resize 292 = .ok (.aload 8, 2) := dk_25 8 (dk_at dksJ7_resize_12 9 rfl rfl)
theorem dJ7_resize_294 : decode cJ7_resize 294 = .ok (.putfield 177, 3) := dk_181 0 177 (dk_at dksJ7_resize_12 11 rfl rfl)
theorem dJ7_resize_297 : decode cJ7_resize 297 = .ok (.aload 8, 2) := dk_25 8 (dk_at dksJ7_resize_12 14 rfl rfl)
theorem dJ7_resize_299 : decode cJ7_resize 299 = .ok (.astore 12, 2) := dk_58 12 (dk_at dksJ7_resize_12 16 rfl rfl)
theorem dJ7_resize_301 : decode cJ7_resize 301 = .ok (.aload 13, 2) := dk_25 13 (dk_at dksJ7_resize_12 18 rfl rfl)
theorem dJ7_resize_303 : decode cJ7_resize 303 = .ok (.dup, 1) := dk_89 (dk_at dksJ7_resize_12 20 rfl rfl)
theorem dJ7_resize_304 : decode cJ7_resize 304 = .ok (.astore 8, 2) := dk_58 8 (dk_at dksJ7_resize_12 21 rfl rfl)
theorem dJ7_resize_306 : decode cJ7_resize 306 = .ok (.ifnonnull (-71), 3) := dk_199 255 185 (dk_at dksJ7_resize_13 0 rfl rfl)
theorem dJ7_resize_309 : decode cJ7_resize 309 = .ok (.aload 10, 2) := dk_25 10 (dk_at dksJ7_resize_13 3 rfl rfl)
theorem dJ7_resize_311 : decode cJ7_resize 311 = .ok (.ifnull 16, 3) := dk_198 0 16 (dk_at dksJ7_resize_13 5 rfl rfl)
theorem dJ7_resize_314 : decode cJ7_resize 314 = .ok (.aload 10, 2) := dk_25 10 (dk_at dksJ7_resize_13 8 rfl rfl)
theorem dJ7_resize_316 : decode cJ7_resize 316 = .ok (.aconst_null, 1) := dk_1 (dk_at dksJ7_resize_13 10 rfl rfl)
theorem dJ7_resize_317 : decode cJ7_resize 317 = .ok (.putfield 177, 3) := dk_181 0 177 (dk_at dksJ7_resize_13 11 rfl rfl)
theorem dJ7_resize_320 : decode cJ7_resize 320 = .ok (.aload 6, 2) := dk_25 6 (dk_at dksJ7_resize_13 14 rfl rfl)
theorem dJ7_resize_322 : decode cJ7_resize 322 = .ok (.iload 7, 2) := dk_21 7 (dk_at dksJ7_resize_13 16 rfl rfl)
theorem dJ7_resize_324 : decode cJ7_resize 324 = .ok (.aload 9, 2) := dk_25 9 (dk_at dksJ7_resize_13 18 rfl rfl)
theorem dJ7_resize_326 : decode cJ7_resize 326 = .ok (.aastore, 1) := dk_83 (dk_at dksJ7_resize_13 20 rfl rfl)
theorem dJ7_resize_327 : decode cJ7_resize 327 = .ok (.aload 12, 2) := dk_25 12 (dk_at dksJ7_resize_13 21 rfl rfl)
theorem dJ7_resize_329 : decode cJ7_resize 329 = .ok (.ifnull 18, 3) := dk_198 0 18 (dk_at dksJ7_resize_14 0 rfl rfl)
theorem dJ7_resize_332 : decode cJ7_resize 332 = .ok (.aload 12, 2) := dk_25 12 (dk_at dksJ7_resize_14 3 rfl rfl)
theorem dJ7_resize_334 : decode cJ7_resize 334 = .ok (.aconst_null, 1) := dk_1 (dk_at dksJ7_resize_14 5 rfl rfl)
theorem dJ7_resize_335 : decode cJ7_resize 335 = .ok (.putfield 177, 3) := dk_181 0 177 (dk_at dksJ7_resize_14 6 rfl rfl)
theorem dJ7_resize_338 : decode cJ7_resize 338 = .ok (.aload 6, 2) := dk_25 6 (dk_at dksJ7_resize_14 9 rfl rfl)
theorem dJ7_resize_340 : decode cJ7_resize 340 = .ok (.iload 7, 2) := dk_21 7 (dk_at dksJ7_resize_14 11 rfl rfl)
theorem dJ7_resize_342 : decode cJ7_resize 342 = .ok (.iload_n 2, 1) := dk_28 (dk_at dksJ7_resize_14 13 rfl rfl)
theorem dJ7_resize_343 : decode cJ7_resize 343 = .ok (.iadd, 1) := dk_96 (dk_at dksJ7_resize_14 14 rfl rfl)
theorem dJ7_resize_344 : decode cJ7_resize 344 = .ok (.aload 11, 2) := dk_25 11 (dk_at dksJ7_resize_14 15 rfl rfl)
theorem dJ7_resize_346 : decode cJ7_resize 346 = .ok (.aastore, 1) := dk_83 (dk_at dksJ7_resize_14 17 rfl rfl)
theorem dJ7_resize_347 : decode cJ7_resize 347 = .ok (.iinc 7 1, 3) := dk_132 7 1 (dk_at dksJ7_resize_14 18 rfl rfl)
theorem dJ7_resize_350 : decode cJ7_resize 350 = .ok (.goto (-199), 3) := dk_167 255 57 (dk_at dksJ7_resize_14 21 rfl rfl)
theorem dJ7_resize_353 : decode cJ7_resize 353 = .ok (.aload 6, 2) := dk_25 6 (dk_at dksJ7_resize_15 0 rfl rfl)
theorem dJ7_resize_355 : decode cJ7_resize 355 = .ok (.areturn, 1) := dk_176 (dk_at dksJ7_resize_15 2 rfl rfl)
abbrev cJ7_newNode : ByteArray := prog_56_method_46_code
def yJ7_newNode : MethodName := ⟨RJ7, "newNode", "(ILjava/lang/Object;Ljava/lang/Object;Ljava/util/HashMap$Node;)Ljava/util/HashMap$Node;"⟩
def dkwJ7_newNode_0 : List UInt8 := [187, 0, 163, 89, 27, 44, 45, 25, 4, 183, 1, 119, 176]
abbrev dktJ7_newNode_0 : List UInt8 := dkwJ7_newNode_0 ++ []
theorem dksJ7_newNode_0 : cJ7_newNode.data.toList.drop 0 = dktJ7_newNode_0 := by decide +kernel
theorem dJ7_newNode_0 : decode cJ7_newNode 0 = .ok (.new 163, 3) := dk_187 0 163 (dk_at dksJ7_newNode_0 0 rfl rfl)
theorem dJ7_newNode_3 : decode cJ7_newNode 3 = .ok (.dup, 1) := dk_89 (dk_at dksJ7_newNode_0 3 rfl rfl)
theorem dJ7_newNode_4 : decode cJ7_newNode 4 = .ok (.iload_n 1, 1) := dk_27 (dk_at dksJ7_newNode_0 4 rfl rfl)
theorem dJ7_newNode_5 : decode cJ7_newNode 5 = .ok (.aload_n 2, 1) := dk_44 (dk_at dksJ7_newNode_0 5 rfl rfl)
theorem dJ7_newNode_6 : decode cJ7_newNode 6 = .ok (.aload_n 3, 1) := dk_45 (dk_at dksJ7_newNode_0 6 rfl rfl)
theorem dJ7_newNode_7 : decode cJ7_newNode 7 = .ok (.aload 4, 2) := dk_25 4 (dk_at dksJ7_newNode_0 7 rfl rfl)
theorem dJ7_newNode_9 : decode cJ7_newNode 9 = .ok (.invokespecial 375, 3) := dk_183 1 119 (dk_at dksJ7_newNode_0 9 rfl rfl)
theorem dJ7_newNode_12 : decode cJ7_newNode 12 = .ok (.areturn, 1) := dk_176 (dk_at dksJ7_newNode_0 12 rfl rfl)
abbrev cJ7_newTreeNode : ByteArray := prog_56_method_48_code
def yJ7_newTreeNode : MethodName := ⟨RJ7, "newTreeNode", "(ILjava/lang/Object;Ljava/lang/Object;Ljava/util/HashMap$Node;)Ljava/util/HashMap$TreeNode;"⟩
def dkwJ7_newTreeNode_0 : List UInt8 := [187, 0, 180, 89, 27, 44, 45, 25, 4, 183, 1, 122, 176]
abbrev dktJ7_newTreeNode_0 : List UInt8 := dkwJ7_newTreeNode_0 ++ []
theorem dksJ7_newTreeNode_0 : cJ7_newTreeNode.data.toList.drop 0 = dktJ7_newTreeNode_0 := by decide +kernel
theorem dJ7_newTreeNode_0 : decode cJ7_newTreeNode 0 = .ok (.new 180, 3) := dk_187 0 180 (dk_at dksJ7_newTreeNode_0 0 rfl rfl)
theorem dJ7_newTreeNode_3 : decode cJ7_newTreeNode 3 = .ok (.dup, 1) := dk_89 (dk_at dksJ7_newTreeNode_0 3 rfl rfl)
theorem dJ7_newTreeNode_4 : decode cJ7_newTreeNode 4 = .ok (.iload_n 1, 1) := dk_27 (dk_at dksJ7_newTreeNode_0 4 rfl rfl)
theorem dJ7_newTreeNode_5 : decode cJ7_newTreeNode 5 = .ok (.aload_n 2, 1) := dk_44 (dk_at dksJ7_newTreeNode_0 5 rfl rfl)
theorem dJ7_newTreeNode_6 : decode cJ7_newTreeNode 6 = .ok (.aload_n 3, 1) := dk_45 (dk_at dksJ7_newTreeNode_0 6 rfl rfl)
theorem dJ7_newTreeNode_7 : decode cJ7_newTreeNode 7 = .ok (.aload 4, 2) := dk_25 4 (dk_at dksJ7_newTreeNode_0 7 rfl rfl)
theorem dJ7_newTreeNode_9 : decode cJ7_newTreeNode 9 = .ok (.invokespecial 378, 3) := dk_183 1 122 (dk_at dksJ7_newTreeNode_0 9 rfl rfl)
theorem dJ7_newTreeNode_12 : decode cJ7_newTreeNode 12 = .ok (.areturn, 1) := dk_176 (dk_at dksJ7_newTreeNode_0 12 rfl rfl)
abbrev cJ7_treeifyBin : ByteArray := prog_56_method_18_code
def yJ7_treeifyBin : MethodName := ⟨RJ7, "treeifyBin", "([Ljava/util/HashMap$Node;I)V"⟩
def dkwJ7_treeifyBin_4 : List UInt8 := [21, 4, 25, 6, 91, 83, 198, 0, 9, 25, 6, 43, 182, 0, 224, 177]
abbrev dktJ7_treeifyBin_4 : List UInt8 := dkwJ7_treeifyBin_4 ++ []
def dkwJ7_treeifyBin_3 : List UInt8 := [25, 7, 25, 8, 181, 0, 223, 25, 8, 58, 7, 25, 5, 180, 0, 177, 89, 58, 5, 199, 255, 209, 43]
abbrev dktJ7_treeifyBin_3 : List UInt8 := dkwJ7_treeifyBin_3 ++ dktJ7_treeifyBin_4
def dkwJ7_treeifyBin_2 : List UInt8 := [182, 0, 215, 58, 8, 25, 7, 199, 0, 10, 25, 8, 58, 6, 167, 0, 17, 25, 8, 25, 7, 181, 0, 219]
abbrev dktJ7_treeifyBin_2 : List UInt8 := dkwJ7_treeifyBin_2 ++ dktJ7_treeifyBin_3
def dkwJ7_treeifyBin_1 : List UInt8 := [100, 28, 126, 89, 54, 4, 50, 89, 58, 5, 198, 0, 75, 1, 58, 6, 1, 58, 7, 42, 25, 5, 1]
abbrev dktJ7_treeifyBin_1 : List UInt8 := dkwJ7_treeifyBin_1 ++ dktJ7_treeifyBin_2
def dkwJ7_treeifyBin_0 : List UInt8 := [43, 198, 0, 12, 43, 190, 89, 62, 16, 64, 162, 0, 11, 42, 182, 0, 117, 87, 167, 0, 91, 43, 29, 4]
abbrev dktJ7_treeifyBin_0 : List UInt8 := dkwJ7_treeifyBin_0 ++ dktJ7_treeifyBin_1
theorem dksJ7_treeifyBin_0 : cJ7_treeifyBin.data.toList.drop 0 = dktJ7_treeifyBin_0 := by decide +kernel
theorem dksJ7_treeifyBin_1 : cJ7_treeifyBin.data.toList.drop 24 = dktJ7_treeifyBin_1 := dk_seg dksJ7_treeifyBin_0 24 rfl rfl
theorem dksJ7_treeifyBin_2 : cJ7_treeifyBin.data.toList.drop 47 = dktJ7_treeifyBin_2 := dk_seg dksJ7_treeifyBin_1 23 rfl rfl
theorem dksJ7_treeifyBin_3 : cJ7_treeifyBin.data.toList.drop 71 = dktJ7_treeifyBin_3 := dk_seg dksJ7_treeifyBin_2 24 rfl rfl
theorem dksJ7_treeifyBin_4 : cJ7_treeifyBin.data.toList.drop 94 = dktJ7_treeifyBin_4 := dk_seg dksJ7_treeifyBin_3 23 rfl rfl
theorem dJ7_treeifyBin_0 : decode cJ7_treeifyBin 0 = .ok (.aload_n 1, 1) := dk_43 (dk_at dksJ7_treeifyBin_0 0 rfl rfl)
theorem dJ7_treeifyBin_1 : decode cJ7_treeifyBin 1 = .ok (.ifnull 12, 3) := dk_198 0 12 (dk_at dksJ7_treeifyBin_0 1 rfl rfl)
theorem dJ7_treeifyBin_4 : decode cJ7_treeifyBin 4 = .ok (.aload_n 1, 1) := dk_43 (dk_at dksJ7_treeifyBin_0 4 rfl rfl)
theorem dJ7_treeifyBin_5 : decode cJ7_treeifyBin 5 = .ok (.arraylength, 1) := dk_190 (dk_at dksJ7_treeifyBin_0 5 rfl rfl)
theorem dJ7_treeifyBin_6 : decode cJ7_treeifyBin 6 = .ok (.dup, 1) := dk_89 (dk_at dksJ7_treeifyBin_0 6 rfl rfl)
theorem dJ7_treeifyBin_7 : decode cJ7_treeifyBin 7 = .ok (.istore_n 3, 1) := dk_62 (dk_at dksJ7_treeifyBin_0 7 rfl rfl)
theorem dJ7_treeifyBin_8 : decode cJ7_treeifyBin 8 = .ok (.bipush 64, 2) := dk_16 64 (dk_at dksJ7_treeifyBin_0 8 rfl rfl)
theorem dJ7_treeifyBin_10 : decode cJ7_treeifyBin 10 = .ok (.if_icmp .ge 11, 3) := dk_162 0 11 (dk_at dksJ7_treeifyBin_0 10 rfl rfl)
theorem dJ7_treeifyBin_13 : decode cJ7_treeifyBin 13 = .ok (.aload_n 0, 1) := dk_42 (dk_at dksJ7_treeifyBin_0 13 rfl rfl)
theorem dJ7_treeifyBin_14 : decode cJ7_treeifyBin 14 = .ok (.invokevirtual 117, 3) := dk_182 0 117 (dk_at dksJ7_treeifyBin_0 14 rfl rfl)
theorem dJ7_treeifyBin_17 : decode cJ7_treeifyBin 17 = .ok (.pop, 1) := dk_87 (dk_at dksJ7_treeifyBin_0 17 rfl rfl)
theorem dJ7_treeifyBin_18 : decode cJ7_treeifyBin 18 = .ok (.goto 91, 3) := dk_167 0 91 (dk_at dksJ7_treeifyBin_0 18 rfl rfl)
theorem dJ7_treeifyBin_21 : decode cJ7_treeifyBin 21 = .ok (.aload_n 1, 1) := dk_43 (dk_at dksJ7_treeifyBin_0 21 rfl rfl)
theorem dJ7_treeifyBin_22 : decode cJ7_treeifyBin 22 = .ok (.iload_n 3, 1) := dk_29 (dk_at dksJ7_treeifyBin_0 22 rfl rfl)
theorem dJ7_treeifyBin_23 : decode cJ7_treeifyBin 23 = .ok (.iconst 1, 1) := dk_4 (dk_at dksJ7_treeifyBin_0 23 rfl rfl)
theorem dJ7_treeifyBin_24 : decode cJ7_treeifyBin 24 = .ok (.isub, 1) := dk_100 (dk_at dksJ7_treeifyBin_1 0 rfl rfl)
theorem dJ7_treeifyBin_25 : decode cJ7_treeifyBin 25 = .ok (.iload_n 2, 1) := dk_28 (dk_at dksJ7_treeifyBin_1 1 rfl rfl)
theorem dJ7_treeifyBin_26 : decode cJ7_treeifyBin 26 = .ok (.iand, 1) := dk_126 (dk_at dksJ7_treeifyBin_1 2 rfl rfl)
theorem dJ7_treeifyBin_27 : decode cJ7_treeifyBin 27 = .ok (.dup, 1) := dk_89 (dk_at dksJ7_treeifyBin_1 3 rfl rfl)
theorem dJ7_treeifyBin_28 : decode cJ7_treeifyBin 28 = .ok (.istore 4, 2) := dk_54 4 (dk_at dksJ7_treeifyBin_1 4 rfl rfl)
theorem dJ7_treeifyBin_30 : decode cJ7_treeifyBin 30 = .ok (.aaload, 1) := dk_50 (dk_at dksJ7_treeifyBin_1 6 rfl rfl)
theorem dJ7_treeifyBin_31 : decode cJ7_treeifyBin 31 = .ok (.dup, 1) := dk_89 (dk_at dksJ7_treeifyBin_1 7 rfl rfl)
theorem dJ7_treeifyBin_32 : decode cJ7_treeifyBin 32 = .ok (.astore 5, 2) := dk_58 5 (dk_at dksJ7_treeifyBin_1 8 rfl rfl)
theorem dJ7_treeifyBin_34 : decode cJ7_treeifyBin 34 = .ok (.ifnull 75, 3) := dk_198 0 75 (dk_at dksJ7_treeifyBin_1 10 rfl rfl)
theorem dJ7_treeifyBin_37 : decode cJ7_treeifyBin 37 = .ok (.aconst_null, 1) := dk_1 (dk_at dksJ7_treeifyBin_1 13 rfl rfl)
theorem dJ7_treeifyBin_38 : decode cJ7_treeifyBin 38 = .ok (.astore 6, 2) := dk_58 6 (dk_at dksJ7_treeifyBin_1 14 rfl rfl)
theorem dJ7_treeifyBin_40 : decode cJ7_treeifyBin 40 = .ok (.aconst_null, 1) := dk_1 (dk_at dksJ7_treeifyBin_1 16 rfl rfl)
theorem dJ7_treeifyBin_41 : decode cJ7_treeifyBin 41 = .ok (.astore 7, 2) := dk_58 7 (dk_at dksJ7_treeifyBin_1 17 rfl rfl)
theorem dJ7_treeifyBin_43 : decode cJ7_treeifyBin 43 = .ok (.aload_n 0, 1) := dk_42 (dk_at dksJ7_treeifyBin_1 19 rfl rfl)
theorem dJ7_treeifyBin_44 : decode cJ7_treeifyBin 44 = .ok (.aload 5, 2) := dk_25 5 (dk_at dksJ7_treeifyBin_1 20 rfl rfl)
theorem dJ7_treeifyBin_46 : decode cJ7_treeifyBin 46 = .ok (.aconst_null, 1) := dk_1 (dk_at dksJ7_treeifyBin_1 22 rfl rfl)
theorem dJ7_treeifyBin_47 : decode cJ7_treeifyBin 47 = .ok (.invokevirtual 215, 3) := dk_182 0 215 (dk_at dksJ7_treeifyBin_2 0 rfl rfl)
theorem dJ7_treeifyBin_50 : decode cJ7_treeifyBin 50 = .ok (.astore 8, 2) := dk_58 8 (dk_at dksJ7_treeifyBin_2 3 rfl rfl)
theorem dJ7_treeifyBin_52 : decode cJ7_treeifyBin 52 = .ok (.aload 7, 2) := dk_25 7 (dk_at dksJ7_treeifyBin_2 5 rfl rfl)
theorem dJ7_treeifyBin_54 : decode cJ7_treeifyBin 54 = .ok (.ifnonnull 10, 3) := dk_199 0 10 (dk_at dksJ7_treeifyBin_2 7 rfl rfl)
theorem dJ7_treeifyBin_57 : decode cJ7_treeifyBin 57 = .ok (.aload 8, 2) := dk_25 8 (dk_at dksJ7_treeifyBin_2 10 rfl rfl)
theorem dJ7_treeifyBin_59 : decode cJ7_treeifyBin 59 = .ok (.astore 6, 2) := dk_58 6 (dk_at dksJ7_treeifyBin_2 12 rfl rfl)
theorem dJ7_treeifyBin_61 : decode cJ7_treeifyBin 61 = .ok (.goto 17, 3) := dk_167 0 17 (dk_at dksJ7_treeifyBin_2 14 rfl rfl)
theorem dJ7_treeifyBin_64 : decode cJ7_treeifyBin 64 = .ok (.aload 8, 2) := dk_25 8 (dk_at dksJ7_treeifyBin_2 17 rfl rfl)
theorem dJ7_treeifyBin_66 : decode cJ7_treeifyBin 66 = .ok (.aload 7, 2) := dk_25 7 (dk_at dksJ7_treeifyBin_2 19 rfl rfl)
theorem dJ7_treeifyBin_68 : decode cJ7_treeifyBin 68 = .ok (.putfield 219, 3) := dk_181 0 219 (dk_at dksJ7_treeifyBin_2 21 rfl rfl)
theorem dJ7_treeifyBin_71 : decode cJ7_treeifyBin 71 = .ok (.aload 7, 2) := dk_25 7 (dk_at dksJ7_treeifyBin_3 0 rfl rfl)
theorem dJ7_treeifyBin_73 : decode cJ7_treeifyBin 73 = .ok (.aload 8, 2) := dk_25 8 (dk_at dksJ7_treeifyBin_3 2 rfl rfl)
theorem dJ7_treeifyBin_75 : decode cJ7_treeifyBin 75 = .ok (.putfield 223, 3) := dk_181 0 223 (dk_at dksJ7_treeifyBin_3 4 rfl rfl)
theorem dJ7_treeifyBin_78 : decode cJ7_treeifyBin 78 = .ok (.aload 8, 2) := dk_25 8 (dk_at dksJ7_treeifyBin_3 7 rfl rfl)
theorem dJ7_treeifyBin_80 : decode cJ7_treeifyBin 80 = .ok (.astore 7, 2) := dk_58 7 (dk_at dksJ7_treeifyBin_3 9 rfl rfl)
theorem dJ7_treeifyBin_82 : decode cJ7_treeifyBin 82 = .ok (.aload 5, 2) := dk_25 5 (dk_at dksJ7_treeifyBin_3 11 rfl rfl)
theorem dJ7_treeifyBin_84 : decode cJ7_treeifyBin 84 = .ok (.getfield 177, 3) := dk_180 0 177 (dk_at dksJ7_treeifyBin_3 13 rfl rfl)
theorem dJ7_treeifyBin_87 : decode cJ7_treeifyBin 87 = .ok (.dup, 1) := dk_89 (dk_at dksJ7_treeifyBin_3 16 rfl rfl)
theorem dJ7_treeifyBin_88 : decode cJ7_treeifyBin 88 = .ok (.astore 5, 2) := dk_58 5 (dk_at dksJ7_treeifyBin_3 17 rfl rfl)
theorem dJ7_treeifyBin_90 : decode cJ7_treeifyBin 90 = .ok (.ifnonnull (-47), 3) := dk_199 255 209 (dk_at dksJ7_treeifyBin_3 19 rfl rfl)
theorem dJ7_treeifyBin_93 : decode cJ7_treeifyBin 93 = .ok (.aload_n 1, 1) := dk_43 (dk_at dksJ7_treeifyBin_3 22 rfl rfl)
theorem dJ7_treeifyBin_94 : decode cJ7_treeifyBin 94 = .ok (.iload 4, 2) := dk_21 4 (dk_at dksJ7_treeifyBin_4 0 rfl rfl)
theorem dJ7_treeifyBin_96 : decode cJ7_treeifyBin 96 = .ok (.aload 6, 2) := dk_25 6 (dk_at dksJ7_treeifyBin_4 2 rfl rfl)
theorem dJ7_treeifyBin_98 : decode cJ7_treeifyBin 98 = .ok (.dup_x2, 1) := dk_91 (dk_at dksJ7_treeifyBin_4 4 rfl rfl)
theorem dJ7_treeifyBin_99 : decode cJ7_treeifyBin 99 = .ok (.aastore, 1) := dk_83 (dk_at dksJ7_treeifyBin_4 5 rfl rfl)
theorem dJ7_treeifyBin_100 : decode cJ7_treeifyBin 100 = .ok (.ifnull 9, 3) := dk_198 0 9 (dk_at dksJ7_treeifyBin_4 6 rfl rfl)
theorem dJ7_treeifyBin_103 : decode cJ7_treeifyBin 103 = .ok (.aload 6, 2) := dk_25 6 (dk_at dksJ7_treeifyBin_4 9 rfl rfl)
theorem dJ7_treeifyBin_105 : decode cJ7_treeifyBin 105 = .ok (.aload_n 1, 1) := dk_43 (dk_at dksJ7_treeifyBin_4 11 rfl rfl)
theorem dJ7_treeifyBin_106 : decode cJ7_treeifyBin 106 = .ok (.invokevirtual 224, 3) := dk_182 0 224 (dk_at dksJ7_treeifyBin_4 12 rfl rfl)
theorem dJ7_treeifyBin_109 : decode cJ7_treeifyBin 109 = .ok (.return_, 1) := dk_177 (dk_at dksJ7_treeifyBin_4 15 rfl rfl)
abbrev cJ7_replacementTreeNode : ByteArray := prog_56_method_49_code
def yJ7_replacementTreeNode : MethodName := ⟨RJ7, "replacementTreeNode", "(Ljava/util/HashMap$Node;Ljava/util/HashMap$Node;)Ljava/util/HashMap$TreeNode;"⟩
def dkwJ7_replacementTreeNode_0 : List UInt8 := [187, 0, 180, 89, 43, 180, 0, 168, 43, 180, 0, 170, 43, 180, 0, 162, 44, 183, 1, 122, 176]
abbrev dktJ7_replacementTreeNode_0 : List UInt8 := dkwJ7_replacementTreeNode_0 ++ []
theorem dksJ7_replacementTreeNode_0 : cJ7_replacementTreeNode.data.toList.drop 0 = dktJ7_replacementTreeNode_0 := by decide +kernel
theorem dJ7_replacementTreeNode_0 : decode cJ7_replacementTreeNode 0 = .ok (.new 180, 3) := dk_187 0 180 (dk_at dksJ7_replacementTreeNode_0 0 rfl rfl)
theorem dJ7_replacementTreeNode_3 : decode cJ7_replacementTreeNode 3 = .ok (.dup, 1) := dk_89 (dk_at dksJ7_replacementTreeNode_0 3 rfl rfl)
theorem dJ7_replacementTreeNode_4 : decode cJ7_replacementTreeNode 4 = .ok (.aload_n 1, 1) := dk_43 (dk_at dksJ7_replacementTreeNode_0 4 rfl rfl)
theorem dJ7_replacementTreeNode_5 : decode cJ7_replacementTreeNode 5 = .ok (.getfield 168, 3) := dk_180 0 168 (dk_at dksJ7_replacementTreeNode_0 5 rfl rfl)
theorem dJ7_replacementTreeNode_8 : decode cJ7_replacementTreeNode 8 = .ok (.aload_n 1, 1) := dk_43 (dk_at dksJ7_replacementTreeNode_0 8 rfl rfl)
theorem dJ7_replacementTreeNode_9 : decode cJ7_replacementTreeNode 9 = .ok (.getfield 170, 3) := dk_180 0 170 (dk_at dksJ7_replacementTreeNode_0 9 rfl rfl)
theorem dJ7_replacementTreeNode_12 : decode cJ7_replacementTreeNode 12 = .ok (.aload_n 1, 1) := dk_43 (dk_at dksJ7_replacementTreeNode_0 12 rfl rfl)
theorem dJ7_replacementTreeNode_13 : decode cJ7_replacementTreeNode 13 = .ok (.getfield 162, 3) := dk_180 0 162 (dk_at dksJ7_replacementTreeNode_0 13 rfl rfl)
theorem dJ7_replacementTreeNode_16 : decode cJ7_replacementTreeNode 16 = .ok (.aload_n 2, 1) := dk_44 (dk_at dksJ7_replacementTreeNode_0 16 rfl rfl)
theorem dJ7_replacementTreeNode_17 : decode cJ7_replacementTreeNode 17 = .ok (.invokespecial 378, 3) := dk_183 1 122 (dk_at dksJ7_replacementTreeNode_0 17 rfl rfl)
theorem dJ7_replacementTreeNode_20 : decode cJ7_replacementTreeNode 20 = .ok (.areturn, 1) := dk_176 (dk_at dksJ7_replacementTreeNode_0 20 rfl rfl)
abbrev cJ7_afterNodeAccess : ByteArray := prog_56_method_51_code
def yJ7_afterNodeAccess : MethodName := ⟨RJ7, "afterNodeAccess", "(Ljava/util/HashMap$Node;)V"⟩
theorem dJ7_afterNodeAccess_0 : decode cJ7_afterNodeAccess 0 = .ok (.return_, 1) := by decide +kernel
abbrev cJ7_afterNodeInsertion : ByteArray := prog_56_method_52_code
def yJ7_afterNodeInsertion : MethodName := ⟨RJ7, "afterNodeInsertion", "(Z)V"⟩
theorem dJ7_afterNodeInsertion_0 : decode cJ7_afterNodeInsertion 0 = .ok (.return_, 1) := by decide +kernel
abbrev cJ7_get : ByteArray := prog_56_method_12_code
def yJ7_get : MethodName := ⟨RJ7, "get", "(Ljava/lang/Object;)Ljava/lang/Object;"⟩
def dkwJ7_get_0 : List UInt8 := [42, 43, 182, 0, 158, 89, 77, 199, 0, 7, 1, 167, 0, 7, 44, 180, 0, 162, 176]
abbrev dktJ7_get_0 : List UInt8 := dkwJ7_get_0 ++ []
theorem dksJ7_get_0 : cJ7_get.data.toList.drop 0 = dktJ7_get_0 := by decide +kernel
theorem dJ7_get_0 : decode cJ7_get 0 = .ok (.aload_n 0, 1) := dk_42 (dk_at dksJ7_get_0 0 rfl rfl)
theorem dJ7_get_1 : decode cJ7_get 1 = .ok (.aload_n 1, 1) := dk_43 (dk_at dksJ7_get_0 1 rfl rfl)
theorem dJ7_get_2 : decode cJ7_get 2 = .ok (.invokevirtual 158, 3) := dk_182 0 158 (dk_at dksJ7_get_0 2 rfl rfl)
theorem dJ7_get_5 : decode cJ7_get 5 = .ok (.dup, 1) := dk_89 (dk_at dksJ7_get_0 5 rfl rfl)
theorem dJ7_get_6 : decode cJ7_get 6 = .ok (.astore_n 2, 1) := dk_77 (dk_at dksJ7_get_0 6 rfl rfl)
theorem dJ7_get_7 : decode cJ7_get 7 = .ok (.ifnonnull 7, 3) := dk_199 0 7 (dk_at dksJ7_get_0 7 rfl rfl)
theorem dJ7_get_10 : decode cJ7_get 10 = .ok (.aconst_null, 1) := dk_1 (dk_at dksJ7_get_0 10 rfl rfl)
theorem dJ7_get_11 : decode cJ7_get 11 = .ok (.goto 7, 3) := dk_167 0 7 (dk_at dksJ7_get_0 11 rfl rfl)
theorem dJ7_get_14 : decode cJ7_get 14 = .ok (.aload_n 2, 1) := dk_44 (dk_at dksJ7_get_0 14 rfl rfl)
theorem dJ7_get_15 : decode cJ7_get 15 = .ok (.getfield 162, 3) := dk_180 0 162 (dk_at dksJ7_get_0 15 rfl rfl)
theorem dJ7_get_18 : decode cJ7_get 18 = .ok (.areturn, 1) := dk_176 (dk_at dksJ7_get_0 18 rfl rfl)
theorem q104 : (Jvm.Cond.initialized "java/util/HashMap") ∈ lw_all := lw_g (lw_at lw_m1 12 rfl) rfl
theorem q319 : (Jvm.Cond.instantiable "java/util/HashMap" (8 : Nat)) ∈ lw_all := lw_g (lw_at lw_m1 227 rfl) rfl
theorem q321 : (Jvm.Cond.instanceMethod ({ cls := "java/util/HashMap", name := "<init>", desc := "()V" } : Jvm.MethodName)) ∈ lw_all := lw_g (lw_at lw_m1 229 rfl) rfl
theorem q322 : (Jvm.Cond.code ({ cls := "java/util/HashMap", name := "<init>", desc := "()V" } : Jvm.MethodName) prog_56_method_7_code (1 : Nat) (Option.none : Option Jvm.ClassFile.FieldType)) ∈ lw_all := lw_g (lw_at lw_m1 230 rfl) rfl
theorem q323 : (Jvm.Cond.methodLink "java/util/HashMap" (43 : Nat) ({ cls := "java/util/AbstractMap", name := "<init>", desc := "()V" } : Jvm.MethodName)) ∈ lw_all := lw_g (lw_at lw_m1 231 rfl) rfl
theorem q327 : (Jvm.Cond.constantFloat "java/util/HashMap" (92 : Nat) (1061158912 : UInt32)) ∈ lw_all := lw_g (lw_at lw_m1 235 rfl) rfl
theorem q328 : (Jvm.Cond.fieldLink "java/util/HashMap" (105 : Nat) "java/util/HashMap" "table" "[Ljava/util/HashMap$Node;") ∈ lw_all := lw_g (lw_at lw_m1 236 rfl) rfl
theorem q329 : (Jvm.Cond.fieldLink "java/util/HashMap" (156 : Nat) "java/util/HashMap" "size" "I") ∈ lw_all := lw_g (lw_at lw_m1 237 rfl) rfl
theorem q330 : (Jvm.Cond.fieldLink "java/util/HashMap" (202 : Nat) "java/util/HashMap" "modCount" "I") ∈ lw_all := lw_g (lw_at lw_m1 238 rfl) rfl
theorem q331 : (Jvm.Cond.fieldLink "java/util/HashMap" (88 : Nat) "java/util/HashMap" "threshold" "I") ∈ lw_all := lw_g (lw_at lw_m1 239 rfl) rfl
theorem q332 : (Jvm.Cond.fieldLink "java/util/HashMap" (81 : Nat) "java/util/HashMap" "loadFactor" "F") ∈ lw_all := lw_g (lw_at lw_m2 0 rfl) rfl
theorem q333 : (Jvm.Cond.lays "java/util/HashMap" "java/util/HashMap" "table" "[Ljava/util/HashMap$Node;") ∈ lw_all := lw_g (lw_at lw_m2 1 rfl) rfl
theorem q334 : (Jvm.Cond.soleField "java/util/HashMap" "table") ∈ lw_all := lw_g (lw_at lw_m2 2 rfl) rfl
theorem q335 : (Jvm.Cond.lays "java/util/HashMap" "java/util/HashMap" "entrySet" "Ljava/util/Set;") ∈ lw_all := lw_g (lw_at lw_m2 3 rfl) rfl
theorem q336 : (Jvm.Cond.soleField "java/util/HashMap" "entrySet") ∈ lw_all := lw_g (lw_at lw_m2 4 rfl) rfl
theorem q337 : (Jvm.Cond.lays "java/util/HashMap" "java/util/HashMap" "size" "I") ∈ lw_all := lw_g (lw_at lw_m2 5 rfl) rfl
theorem q338 : (Jvm.Cond.soleField "java/util/HashMap" "size") ∈ lw_all := lw_g (lw_at lw_m2 6 rfl) rfl
theorem q339 : (Jvm.Cond.lays "java/util/HashMap" "java/util/HashMap" "modCount" "I") ∈ lw_all := lw_g (lw_at lw_m2 7 rfl) rfl
theorem q340 : (Jvm.Cond.soleField "java/util/HashMap" "modCount") ∈ lw_all := lw_g (lw_at lw_m2 8 rfl) rfl
theorem q341 : (Jvm.Cond.lays "java/util/HashMap" "java/util/HashMap" "threshold" "I") ∈ lw_all := lw_g (lw_at lw_m2 9 rfl) rfl
theorem q342 : (Jvm.Cond.soleField "java/util/HashMap" "threshold") ∈ lw_all := lw_g (lw_at lw_m2 10 rfl) rfl
theorem q343 : (Jvm.Cond.laysFinal "java/util/HashMap" "java/util/HashMap" "loadFactor" "F") ∈ lw_all := lw_g (lw_at lw_m2 11 rfl) rfl
theorem q344 : (Jvm.Cond.soleField "java/util/HashMap" "loadFactor") ∈ lw_all := lw_g (lw_at lw_m2 12 rfl) rfl
theorem q345 : (Jvm.Cond.lays "java/util/HashMap" "java/util/AbstractMap" "keySet" "Ljava/util/Set;") ∈ lw_all := lw_g (lw_at lw_m2 13 rfl) rfl
theorem q347 : (Jvm.Cond.lays "java/util/HashMap" "java/util/AbstractMap" "values" "Ljava/util/Collection;") ∈ lw_all := lw_g (lw_at lw_m2 15 rfl) rfl
theorem q349 : (Jvm.Cond.superclass "java/util/HashMap" "java/util/AbstractMap") ∈ lw_all := lw_g (lw_at lw_m2 17 rfl) rfl
theorem q447 : (Jvm.Cond.selects "java/util/HashMap" ({ cls := "java/lang/Object", name := "getClass", desc := "()Ljava/lang/Class;" } : Jvm.MethodName) ({ cls := "java/lang/Object", name := "getClass", desc := "()Ljava/lang/Class;" } : Jvm.MethodName)) ∈ lw_all := lw_g (lw_at lw_m2 115 rfl) rfl
theorem q467 : (Jvm.Cond.instanceMethod ({ cls := "java/util/HashMap", name := "containsKey", desc := "(Ljava/lang/Object;)Z" } : Jvm.MethodName)) ∈ lw_all := lw_g (lw_at lw_m2 135 rfl) rfl
theorem q468 : (Jvm.Cond.selects "java/util/HashMap" ({ cls := "java/util/HashMap", name := "containsKey", desc := "(Ljava/lang/Object;)Z" } : Jvm.MethodName) ({ cls := "java/util/HashMap", name := "containsKey", desc := "(Ljava/lang/Object;)Z" } : Jvm.MethodName)) ∈ lw_all := lw_g (lw_at lw_m2 136 rfl) rfl
theorem q469 : (Jvm.Cond.code ({ cls := "java/util/HashMap", name := "containsKey", desc := "(Ljava/lang/Object;)Z" } : Jvm.MethodName) prog_56_method_14_code (2 : Nat) (Option.some Jvm.ClassFile.FieldType.boolean)) ∈ lw_all := lw_g (lw_at lw_m2 137 rfl) rfl
theorem q470 : (Jvm.Cond.methodLink "java/util/HashMap" (158 : Nat) ({ cls := "java/util/HashMap", name := "getNode", desc := "(Ljava/lang/Object;)Ljava/util/HashMap$Node;" } : Jvm.MethodName)) ∈ lw_all := lw_g (lw_at lw_m2 138 rfl) rfl
theorem q471 : (Jvm.Cond.instanceMethod ({ cls := "java/util/HashMap", name := "getNode", desc := "(Ljava/lang/Object;)Ljava/util/HashMap$Node;" } : Jvm.MethodName)) ∈ lw_all := lw_g (lw_at lw_m2 139 rfl) rfl
theorem q472 : (Jvm.Cond.selects "java/util/HashMap" ({ cls := "java/util/HashMap", name := "getNode", desc := "(Ljava/lang/Object;)Ljava/util/HashMap$Node;" } : Jvm.MethodName) ({ cls := "java/util/HashMap", name := "getNode", desc := "(Ljava/lang/Object;)Ljava/util/HashMap$Node;" } : Jvm.MethodName)) ∈ lw_all := lw_g (lw_at lw_m2 140 rfl) rfl
theorem q473 : (Jvm.Cond.code ({ cls := "java/util/HashMap", name := "getNode", desc := "(Ljava/lang/Object;)Ljava/util/HashMap$Node;" } : Jvm.MethodName) prog_56_method_13_code (8 : Nat) (Option.some (Jvm.ClassFile.FieldType.object "java/util/HashMap$Node"))) ∈ lw_all := lw_g (lw_at lw_m2 141 rfl) rfl
theorem q474 : (Jvm.Cond.methodLink "java/util/HashMap" (149 : Nat) ({ cls := "java/util/HashMap", name := "hash", desc := "(Ljava/lang/Object;)I" } : Jvm.MethodName)) ∈ lw_all := lw_g (lw_at lw_m2 142 rfl) rfl
theorem q475 : (Jvm.Cond.static ({ cls := "java/util/HashMap", name := "hash", desc := "(Ljava/lang/Object;)I" } : Jvm.MethodName)) ∈ lw_all := lw_g (lw_at lw_m2 143 rfl) rfl
theorem q476 : (Jvm.Cond.code ({ cls := "java/util/HashMap", name := "hash", desc := "(Ljava/lang/Object;)I" } : Jvm.MethodName) prog_56_method_1_code (2 : Nat) (Option.some Jvm.ClassFile.FieldType.int)) ∈ lw_all := lw_g (lw_at lw_m2 144 rfl) rfl
theorem q478 : (Jvm.Cond.methodLink "java/util/HashMap" (1 : Nat) ({ cls := "java/lang/Object", name := "hashCode", desc := "()I" } : Jvm.MethodName)) ∈ lw_all := lw_g (lw_at lw_m2 146 rfl) rfl
theorem q578 : (Jvm.Cond.methodLink "java/util/HashMap" (173 : Nat) ({ cls := "java/lang/Object", name := "equals", desc := "(Ljava/lang/Object;)Z" } : Jvm.MethodName)) ∈ lw_all := lw_g (lw_at lw_m3 6 rfl) rfl
theorem q620 : (Jvm.Cond.classLink "java/util/HashMap" (180 : Nat) "java/util/HashMap$TreeNode") ∈ lw_all := lw_g (lw_at lw_m3 48 rfl) rfl
theorem q621 : (Jvm.Cond.methodLink "java/util/HashMap" (182 : Nat) ({ cls := "java/util/HashMap$TreeNode", name := "getTreeNode", desc := "(ILjava/lang/Object;)Ljava/util/HashMap$TreeNode;" } : Jvm.MethodName)) ∈ lw_all := lw_g (lw_at lw_m3 49 rfl) rfl
theorem q635 : (Jvm.Cond.static ({ cls := "java/util/HashMap", name := "comparableClassFor", desc := "(Ljava/lang/Object;)Ljava/lang/Class;" } : Jvm.MethodName)) ∈ lw_all := lw_g (lw_at lw_m3 63 rfl) rfl
theorem q636 : (Jvm.Cond.code ({ cls := "java/util/HashMap", name := "comparableClassFor", desc := "(Ljava/lang/Object;)Ljava/lang/Class;" } : Jvm.MethodName) prog_56_method_2_code (9 : Nat) (Option.some (Jvm.ClassFile.FieldType.object "java/lang/Class"))) ∈ lw_all := lw_g (lw_at lw_m3 64 rfl) rfl
theorem q637 : (Jvm.Cond.classLink "java/util/HashMap" (7 : Nat) "java/lang/Comparable") ∈ lw_all := lw_g (lw_at lw_m3 65 rfl) rfl
theorem q638 : (Jvm.Cond.methodLink "java/util/HashMap" (9 : Nat) ({ cls := "java/lang/Object", name := "getClass", desc := "()Ljava/lang/Class;" } : Jvm.MethodName)) ∈ lw_all := lw_g (lw_at lw_m3 66 rfl) rfl
theorem q639 : (Jvm.Cond.classLink "java/util/HashMap" (13 : Nat) "java/lang/String") ∈ lw_all := lw_g (lw_at lw_m3 67 rfl) rfl
theorem q641 : (Jvm.Cond.static ({ cls := "java/util/HashMap", name := "compareComparables", desc := "(Ljava/lang/Class;Ljava/lang/Object;Ljava/lang/Object;)I" } : Jvm.MethodName)) ∈ lw_all := lw_g (lw_at lw_m3 69 rfl) rfl
theorem q642 : (Jvm.Cond.code ({ cls := "java/util/HashMap", name := "compareComparables", desc := "(Ljava/lang/Class;Ljava/lang/Object;Ljava/lang/Object;)I" } : Jvm.MethodName) prog_56_method_3_code (3 : Nat) (Option.some Jvm.ClassFile.FieldType.int)) ∈ lw_all := lw_g (lw_at lw_m3 70 rfl) rfl
theorem q643 : (Jvm.Cond.interfaceEntry "java/util/HashMap" (30 : Nat)) ∈ lw_tbl := lw_at lw_m3 71 rfl
theorem q644 : (Jvm.Cond.methodLink "java/util/HashMap" (30 : Nat) ({ cls := "java/lang/Comparable", name := "compareTo", desc := "(Ljava/lang/Object;)I" } : Jvm.MethodName)) ∈ lw_all := lw_g (lw_at lw_m3 72 rfl) rfl
theorem q855 : (Jvm.Cond.instanceMethod ({ cls := "java/util/HashMap", name := "put", desc := "(Ljava/lang/Object;Ljava/lang/Object;)Ljava/lang/Object;" } : Jvm.MethodName)) ∈ lw_all := lw_g (lw_at lw_m4 43 rfl) rfl
theorem q856 : (Jvm.Cond.selects "java/util/HashMap" ({ cls := "java/util/HashMap", name := "put", desc := "(Ljava/lang/Object;Ljava/lang/Object;)Ljava/lang/Object;" } : Jvm.MethodName) ({ cls := "java/util/HashMap", name := "put", desc := "(Ljava/lang/Object;Ljava/lang/Object;)Ljava/lang/Object;" } : Jvm.MethodName)) ∈ lw_all := lw_g (lw_at lw_m4 44 rfl) rfl
theorem q857 : (Jvm.Cond.code ({ cls := "java/util/HashMap", name := "put", desc := "(Ljava/lang/Object;Ljava/lang/Object;)Ljava/lang/Object;" } : Jvm.MethodName) prog_56_method_15_code (3 : Nat) (Option.some (Jvm.ClassFile.FieldType.object "java/lang/Object"))) ∈ lw_all := lw_g (lw_at lw_m4 45 rfl) rfl
theorem q858 : (Jvm.Cond.methodLink "java/util/HashMap" (152 : Nat) ({ cls := "java/util/HashMap", name := "putVal", desc := "(ILjava/lang/Object;Ljava/lang/Object;ZZ)Ljava/lang/Object;" } : Jvm.MethodName)) ∈ lw_all := lw_g (lw_at lw_m4 46 rfl) rfl
theorem q859 : (Jvm.Cond.instanceMethod ({ cls := "java/util/HashMap", name := "putVal", desc := "(ILjava/lang/Object;Ljava/lang/Object;ZZ)Ljava/lang/Object;" } : Jvm.MethodName)) ∈ lw_all := lw_g (lw_at lw_m4 47 rfl) rfl
theorem q860 : (Jvm.Cond.selects "java/util/HashMap" ({ cls := "java/util/HashMap", name := "putVal", desc := "(ILjava/lang/Object;Ljava/lang/Object;ZZ)Ljava/lang/Object;" } : Jvm.MethodName) ({ cls := "java/util/HashMap", name := "putVal", desc := "(ILjava/lang/Object;Ljava/lang/Object;ZZ)Ljava/lang/Object;" } : Jvm.MethodName)) ∈ lw_all := lw_g (lw_at lw_m4 48 rfl) rfl
theorem q861 : (Jvm.Cond.code ({ cls := "java/util/HashMap", name := "putVal", desc := "(ILjava/lang/Object;Ljava/lang/Object;ZZ)Ljava/lang/Object;" } : Jvm.MethodName) prog_56_method_16_code (13 : Nat) (Option.some (Jvm.ClassFile.FieldType.object "java/lang/Object"))) ∈ lw_all := lw_g (lw_at lw_m4 49 rfl) rfl
theorem q862 : (Jvm.Cond.methodLink "java/util/HashMap" (117 : Nat) ({ cls := "java/util/HashMap", name := "resize", desc := "()[Ljava/util/HashMap$Node;" } : Jvm.MethodName)) ∈ lw_all := lw_g (lw_at lw_m4 50 rfl) rfl
theorem q863 : (Jvm.Cond.instanceMethod ({ cls := "java/util/HashMap", name := "resize", desc := "()[Ljava/util/HashMap$Node;" } : Jvm.MethodName)) ∈ lw_all := lw_g (lw_at lw_m4 51 rfl) rfl
theorem q864 : (Jvm.Cond.selects "java/util/HashMap" ({ cls := "java/util/HashMap", name := "resize", desc := "()[Ljava/util/HashMap$Node;" } : Jvm.MethodName) ({ cls := "java/util/HashMap", name := "resize", desc := "()[Ljava/util/HashMap$Node;" } : Jvm.MethodName)) ∈ lw_all := lw_g (lw_at lw_m4 52 rfl) rfl
theorem q865 : (Jvm.Cond.code ({ cls := "java/util/HashMap", name := "resize", desc := "()[Ljava/util/HashMap$Node;" } : Jvm.MethodName) prog_56_method_17_code (14 : Nat) (Option.some (Jvm.ClassFile.FieldType.array (Jvm.ClassFile.FieldType.object "java/util/HashMap$Node")))) ∈ lw_all := lw_g (lw_at lw_m4 53 rfl) rfl
theorem q866 : (Jvm.Cond.constant "java/util/HashMap" (42 : Nat) (1073741824 : Int32)) ∈ lw_all := lw_g (lw_at lw_m4 54 rfl) rfl
theorem q867 : (Jvm.Cond.constant "java/util/HashMap" (209 : Nat) (2147483647 : Int32)) ∈ lw_all := lw_g (lw_at lw_m4 55 rfl) rfl
theorem q868 : (Jvm.Cond.constantFloat "java/util/HashMap" (210 : Nat) (1317011456 : UInt32)) ∈ lw_all := lw_g (lw_at lw_m4 56 rfl) rfl
theorem q869 : (Jvm.Cond.classLink "java/util/HashMap" (163 : Nat) "java/util/HashMap$Node") ∈ lw_all := lw_g (lw_at lw_m4 57 rfl) rfl
theorem q871 : (Jvm.Cond.methodLink "java/util/HashMap" (211 : Nat) ({ cls := "java/util/HashMap$TreeNode", name := "split", desc := "(Ljava/util/HashMap;[Ljava/util/HashMap$Node;II)V" } : Jvm.MethodName)) ∈ lw_all := lw_g (lw_at lw_m4 59 rfl) rfl
theorem q881 : (Jvm.Cond.instanceMethod ({ cls := "java/util/HashMap", name := "replacementNode", desc := "(Ljava/util/HashMap$Node;Ljava/util/HashMap$Node;)Ljava/util/HashMap$Node;" } : Jvm.MethodName)) ∈ lw_all := lw_g (lw_at lw_m4 69 rfl) rfl
theorem q882 : (Jvm.Cond.selects "java/util/HashMap" ({ cls := "java/util/HashMap", name := "replacementNode", desc := "(Ljava/util/HashMap$Node;Ljava/util/HashMap$Node;)Ljava/util/HashMap$Node;" } : Jvm.MethodName) ({ cls := "java/util/HashMap", name := "replacementNode", desc := "(Ljava/util/HashMap$Node;Ljava/util/HashMap$Node;)Ljava/util/HashMap$Node;" } : Jvm.MethodName)) ∈ lw_all := lw_g (lw_at lw_m4 70 rfl) rfl
theorem q883 : (Jvm.Cond.code ({ cls := "java/util/HashMap", name := "replacementNode", desc := "(Ljava/util/HashMap$Node;Ljava/util/HashMap$Node;)Ljava/util/HashMap$Node;" } : Jvm.MethodName) prog_56_method_47_code (3 : Nat) (Option.some (Jvm.ClassFile.FieldType.object "java/util/HashMap$Node"))) ∈ lw_all := lw_g (lw_at lw_m4 71 rfl) rfl
theorem q885 : (Jvm.Cond.methodLink "java/util/HashMap" (375 : Nat) ({ cls := "java/util/HashMap$Node", name := "<init>", desc := "(ILjava/lang/Object;Ljava/lang/Object;Ljava/util/HashMap$Node;)V" } : Jvm.MethodName)) ∈ lw_all := lw_g (lw_at lw_m4 73 rfl) rfl
theorem q892 : (Jvm.Cond.fieldLink "java/util/HashMap" (168 : Nat) "java/util/HashMap$Node" "hash" "I") ∈ lw_all := lw_g (lw_at lw_m4 80 rfl) rfl
theorem q896 : (Jvm.Cond.fieldLink "java/util/HashMap" (170 : Nat) "java/util/HashMap$Node" "key" "Ljava/lang/Object;") ∈ lw_all := lw_g (lw_at lw_m4 84 rfl) rfl
theorem q898 : (Jvm.Cond.fieldLink "java/util/HashMap" (162 : Nat) "java/util/HashMap$Node" "value" "Ljava/lang/Object;") ∈ lw_all := lw_g (lw_at lw_m4 86 rfl) rfl
theorem q903 : (Jvm.Cond.fieldLink "java/util/HashMap" (177 : Nat) "java/util/HashMap$Node" "next" "Ljava/util/HashMap$Node;") ∈ lw_all := lw_g (lw_at lw_m4 91 rfl) rfl
theorem q904 : (Jvm.Cond.fieldLink "java/util/HashMap" (223 : Nat) "java/util/HashMap$TreeNode" "next" "Ljava/util/HashMap$Node;") ∈ lw_all := lw_g (lw_at lw_m4 92 rfl) rfl
theorem q932 : (Jvm.Cond.methodLink "java/util/HashMap" (186 : Nat) ({ cls := "java/util/HashMap", name := "newNode", desc := "(ILjava/lang/Object;Ljava/lang/Object;Ljava/util/HashMap$Node;)Ljava/util/HashMap$Node;" } : Jvm.MethodName)) ∈ lw_all := lw_g (lw_at lw_m4 120 rfl) rfl
theorem q933 : (Jvm.Cond.instanceMethod ({ cls := "java/util/HashMap", name := "newNode", desc := "(ILjava/lang/Object;Ljava/lang/Object;Ljava/util/HashMap$Node;)Ljava/util/HashMap$Node;" } : Jvm.MethodName)) ∈ lw_all := lw_g (lw_at lw_m4 121 rfl) rfl
theorem q934 : (Jvm.Cond.selects "java/util/HashMap" ({ cls := "java/util/HashMap", name := "newNode", desc := "(ILjava/lang/Object;Ljava/lang/Object;Ljava/util/HashMap$Node;)Ljava/util/HashMap$Node;" } : Jvm.MethodName) ({ cls := "java/util/HashMap", name := "newNode", desc := "(ILjava/lang/Object;Ljava/lang/Object;Ljava/util/HashMap$Node;)Ljava/util/HashMap$Node;" } : Jvm.MethodName)) ∈ lw_all := lw_g (lw_at lw_m4 122 rfl) rfl
theorem q935 : (Jvm.Cond.code ({ cls := "java/util/HashMap", name := "newNode", desc := "(ILjava/lang/Object;Ljava/lang/Object;Ljava/util/HashMap$Node;)Ljava/util/HashMap$Node;" } : Jvm.MethodName) prog_56_method_46_code (5 : Nat) (Option.some (Jvm.ClassFile.FieldType.object "java/util/HashMap$Node"))) ∈ lw_all := lw_g (lw_at lw_m4 123 rfl) rfl
theorem q936 : (Jvm.Cond.methodLink "java/util/HashMap" (190 : Nat) ({ cls := "java/util/HashMap$TreeNode", name := "putTreeVal", desc := "(Ljava/util/HashMap;[Ljava/util/HashMap$Node;ILjava/lang/Object;Ljava/lang/Object;)Ljava/util/HashMap$TreeNode;" } : Jvm.MethodName)) ∈ lw_all := lw_g (lw_at lw_m4 124 rfl) rfl
theorem q941 : (Jvm.Cond.instanceMethod ({ cls := "java/util/HashMap", name := "newTreeNode", desc := "(ILjava/lang/Object;Ljava/lang/Object;Ljava/util/HashMap$Node;)Ljava/util/HashMap$TreeNode;" } : Jvm.MethodName)) ∈ lw_all := lw_g (lw_at lw_m4 129 rfl) rfl
theorem q942 : (Jvm.Cond.selects "java/util/HashMap" ({ cls := "java/util/HashMap", name := "newTreeNode", desc := "(ILjava/lang/Object;Ljava/lang/Object;Ljava/util/HashMap$Node;)Ljava/util/HashMap$TreeNode;" } : Jvm.MethodName) ({ cls := "java/util/HashMap", name := "newTreeNode", desc := "(ILjava/lang/Object;Ljava/lang/Object;Ljava/util/HashMap$Node;)Ljava/util/HashMap$TreeNode;" } : Jvm.MethodName)) ∈ lw_all := lw_g (lw_at lw_m4 130 rfl) rfl
theorem q943 : (Jvm.Cond.code ({ cls := "java/util/HashMap", name := "newTreeNode", desc := "(ILjava/lang/Object;Ljava/lang/Object;Ljava/util/HashMap$Node;)Ljava/util/HashMap$TreeNode;" } : Jvm.MethodName) prog_56_method_48_code (5 : Nat) (Option.some (Jvm.ClassFile.FieldType.object "java/util/HashMap$TreeNode"))) ∈ lw_all := lw_g (lw_at lw_m4 131 rfl) rfl
theorem q945 : (Jvm.Cond.methodLink "java/util/HashMap" (378 : Nat) ({ cls := "java/util/HashMap$TreeNode", name := "<init>", desc := "(ILjava/lang/Object;Ljava/lang/Object;Ljava/util/HashMap$Node;)V" } : Jvm.MethodName)) ∈ lw_all := lw_g (lw_at lw_m4 133 rfl) rfl
theorem q956 : (Jvm.Cond.fieldLink "java/util/HashMap" (219 : Nat) "java/util/HashMap$TreeNode" "prev" "Ljava/util/HashMap$TreeNode;") ∈ lw_all := lw_g (lw_at lw_m4 144 rfl) rfl
theorem q977 : (Jvm.Cond.methodLink "java/util/HashMap" (194 : Nat) ({ cls := "java/util/HashMap", name := "treeifyBin", desc := "([Ljava/util/HashMap$Node;I)V" } : Jvm.MethodName)) ∈ lw_all := lw_g (lw_at lw_m4 165 rfl) rfl
theorem q978 : (Jvm.Cond.instanceMethod ({ cls := "java/util/HashMap", name := "treeifyBin", desc := "([Ljava/util/HashMap$Node;I)V" } : Jvm.MethodName)) ∈ lw_all := lw_g (lw_at lw_m4 166 rfl) rfl
theorem q979 : (Jvm.Cond.selects "java/util/HashMap" ({ cls := "java/util/HashMap", name := "treeifyBin", desc := "([Ljava/util/HashMap$Node;I)V" } : Jvm.MethodName) ({ cls := "java/util/HashMap", name := "treeifyBin", desc := "([Ljava/util/HashMap$Node;I)V" } : Jvm.MethodName)) ∈ lw_all := lw_g (lw_at lw_m4 167 rfl) rfl
theorem q980 : (Jvm.Cond.code ({ cls := "java/util/HashMap", name := "treeifyBin", desc := "([Ljava/util/HashMap$Node;I)V" } : Jvm.MethodName) prog_56_method_18_code (9 : Nat) (Option.none : Option Jvm.ClassFile.FieldType)) ∈ lw_all := lw_g (lw_at lw_m4 168 rfl) rfl
theorem q981 : (Jvm.Cond.methodLink "java/util/HashMap" (215 : Nat) ({ cls := "java/util/HashMap", name := "replacementTreeNode", desc := "(Ljava/util/HashMap$Node;Ljava/util/HashMap$Node;)Ljava/util/HashMap$TreeNode;" } : Jvm.MethodName)) ∈ lw_all := lw_g (lw_at lw_m4 169 rfl) rfl
theorem q982 : (Jvm.Cond.instanceMethod ({ cls := "java/util/HashMap", name := "replacementTreeNode", desc := "(Ljava/util/HashMap$Node;Ljava/util/HashMap$Node;)Ljava/util/HashMap$TreeNode;" } : Jvm.MethodName)) ∈ lw_all := lw_g (lw_at lw_m4 170 rfl) rfl
theorem q983 : (Jvm.Cond.selects "java/util/HashMap" ({ cls := "java/util/HashMap", name := "replacementTreeNode", desc := "(Ljava/util/HashMap$Node;Ljava/util/HashMap$Node;)Ljava/util/HashMap$TreeNode;" } : Jvm.MethodName) ({ cls := "java/util/HashMap", name := "replacementTreeNode", desc := "(Ljava/util/HashMap$Node;Ljava/util/HashMap$Node;)Ljava/util/HashMap$TreeNode;" } : Jvm.MethodName)) ∈ lw_all := lw_g (lw_at lw_m4 171 rfl) rfl
theorem q984 : (Jvm.Cond.code ({ cls := "java/util/HashMap", name := "replacementTreeNode", desc := "(Ljava/util/HashMap$Node;Ljava/util/HashMap$Node;)Ljava/util/HashMap$TreeNode;" } : Jvm.MethodName) prog_56_method_49_code (3 : Nat) (Option.some (Jvm.ClassFile.FieldType.object "java/util/HashMap$TreeNode"))) ∈ lw_all := lw_g (lw_at lw_m4 172 rfl) rfl
theorem q985 : (Jvm.Cond.methodLink "java/util/HashMap" (224 : Nat) ({ cls := "java/util/HashMap$TreeNode", name := "treeify", desc := "([Ljava/util/HashMap$Node;)V" } : Jvm.MethodName)) ∈ lw_all := lw_g (lw_at lw_m4 173 rfl) rfl
theorem q986 : (Jvm.Cond.methodLink "java/util/HashMap" (198 : Nat) ({ cls := "java/util/HashMap", name := "afterNodeAccess", desc := "(Ljava/util/HashMap$Node;)V" } : Jvm.MethodName)) ∈ lw_all := lw_g (lw_at lw_m4 174 rfl) rfl
theorem q987 : (Jvm.Cond.instanceMethod ({ cls := "java/util/HashMap", name := "afterNodeAccess", desc := "(Ljava/util/HashMap$Node;)V" } : Jvm.MethodName)) ∈ lw_all := lw_g (lw_at lw_m4 175 rfl) rfl
theorem q988 : (Jvm.Cond.selects "java/util/HashMap" ({ cls := "java/util/HashMap", name := "afterNodeAccess", desc := "(Ljava/util/HashMap$Node;)V" } : Jvm.MethodName) ({ cls := "java/util/HashMap", name := "afterNodeAccess", desc := "(Ljava/util/HashMap$Node;)V" } : Jvm.MethodName)) ∈ lw_all := lw_g (lw_at lw_m4 176 rfl) rfl
theorem q989 : (Jvm.Cond.code ({ cls := "java/util/HashMap", name := "afterNodeAccess", desc := "(Ljava/util/HashMap$Node;)V" } : Jvm.MethodName) prog_56_method_51_code (2 : Nat) (Option.none : Option Jvm.ClassFile.FieldType)) ∈ lw_all := lw_g (lw_at lw_m4 177 rfl) rfl
theorem q990 : (Jvm.Cond.methodLink "java/util/HashMap" (205 : Nat) ({ cls := "java/util/HashMap", name := "afterNodeInsertion", desc := "(Z)V" } : Jvm.MethodName)) ∈ lw_all := lw_g (lw_at lw_m4 178 rfl) rfl
theorem q991 : (Jvm.Cond.instanceMethod ({ cls := "java/util/HashMap", name := "afterNodeInsertion", desc := "(Z)V" } : Jvm.MethodName)) ∈ lw_all := lw_g (lw_at lw_m4 179 rfl) rfl
theorem q992 : (Jvm.Cond.selects "java/util/HashMap" ({ cls := "java/util/HashMap", name := "afterNodeInsertion", desc := "(Z)V" } : Jvm.MethodName) ({ cls := "java/util/HashMap", name := "afterNodeInsertion", desc := "(Z)V" } : Jvm.MethodName)) ∈ lw_all := lw_g (lw_at lw_m4 180 rfl) rfl
theorem q993 : (Jvm.Cond.code ({ cls := "java/util/HashMap", name := "afterNodeInsertion", desc := "(Z)V" } : Jvm.MethodName) prog_56_method_52_code (2 : Nat) (Option.none : Option Jvm.ClassFile.FieldType)) ∈ lw_all := lw_g (lw_at lw_m4 181 rfl) rfl
theorem q1437 : (Jvm.Cond.instanceMethod ({ cls := "java/util/HashMap", name := "get", desc := "(Ljava/lang/Object;)Ljava/lang/Object;" } : Jvm.MethodName)) ∈ lw_all := lw_g (lw_at lw_m6 145 rfl) rfl
theorem q1438 : (Jvm.Cond.selects "java/util/HashMap" ({ cls := "java/util/HashMap", name := "get", desc := "(Ljava/lang/Object;)Ljava/lang/Object;" } : Jvm.MethodName) ({ cls := "java/util/HashMap", name := "get", desc := "(Ljava/lang/Object;)Ljava/lang/Object;" } : Jvm.MethodName)) ∈ lw_all := lw_g (lw_at lw_m6 146 rfl) rfl
theorem q1439 : (Jvm.Cond.code ({ cls := "java/util/HashMap", name := "get", desc := "(Ljava/lang/Object;)Ljava/lang/Object;" } : Jvm.MethodName) prog_56_method_12_code (3 : Nat) (Option.some (Jvm.ClassFile.FieldType.object "java/lang/Object"))) ∈ lw_all := lw_g (lw_at lw_m6 147 rfl) rfl
theorem q2940 : (Jvm.Cond.castable "java/util/HashMap" "java/lang/Object") ∈ lw_tbl := lw_at lw_m12 208 rfl
theorem in_J7 : ∀ w ∈ wsJ70, w ∈ lw_all := lw_in wsJ70 [345, 347, 333, 335, 337, 339, 341, 343] (by decide +kernel) (by decide +kernel)

/-! jdk/internal/util/ArraysSupport -/
set_option maxRecDepth 100000
def RJ8 : String := "jdk/internal/util/ArraysSupport"
abbrev cJ8_newLength : ByteArray := prog_69_method_27_code
def yJ8_newLength : MethodName := ⟨RJ8, "newLength", "(III)I"⟩
def dkwJ8_newLength_1 : List UInt8 := [184, 0, 201, 172]
abbrev dktJ8_newLength_1 : List UInt8 := dkwJ8_newLength_1 ++ []
def dkwJ8_newLength_0 : List UInt8 := [26, 27, 28, 184, 0, 194, 96, 62, 3, 29, 162, 0, 11, 29, 18, 200, 163, 0, 5, 29, 172, 26, 27]
abbrev dktJ8_newLength_0 : List UInt8 := dkwJ8_newLength_0 ++ dktJ8_newLength_1
theorem dksJ8_newLength_0 : cJ8_newLength.data.toList.drop 0 = dktJ8_newLength_0 := by decide +kernel
theorem dksJ8_newLength_1 : cJ8_newLength.data.toList.drop 23 = dktJ8_newLength_1 := dk_seg dksJ8_newLength_0 23 rfl rfl
theorem dJ8_newLength_0 : decode cJ8_newLength 0 = .ok (.iload_n 0, 1) := dk_26 (dk_at dksJ8_newLength_0 0 rfl rfl)
theorem dJ8_newLength_1 : decode cJ8_newLength 1 = .ok (.iload_n 1, 1) := dk_27 (dk_at dksJ8_newLength_0 1 rfl rfl)
theorem dJ8_newLength_2 : decode cJ8_newLength 2 = .ok (.iload_n 2, 1) := dk_28 (dk_at dksJ8_newLength_0 2 rfl rfl)
theorem dJ8_newLength_3 : decode cJ8_newLength 3 = .ok (.invokestatic 194, 3) := dk_184 0 194 (dk_at dksJ8_newLength_0 3 rfl rfl)
theorem dJ8_newLength_6 : decode cJ8_newLength 6 = .ok (.iadd, 1) := dk_96 (dk_at dksJ8_newLength_0 6 rfl rfl)
theorem dJ8_newLength_7 : decode cJ8_newLength 7 = .ok (.istore_n 3, 1) := dk_62 (dk_at dksJ8_newLength_0 7 rfl rfl)
theorem dJ8_newLength_8 : decode cJ8_newLength 8 = .ok (.iconst 0, 1) := dk_3 (dk_at dksJ8_newLength_0 8 rfl rfl)
theorem dJ8_newLength_9 : decode cJ8_newLength 9 = .ok (.iload_n 3, 1) := dk_29 (dk_at dksJ8_newLength_0 9 rfl rfl)
theorem dJ8_newLength_10 : decode cJ8_newLength 10 = .ok (.if_icmp .ge 11, 3) := dk_162 0 11 (dk_at dksJ8_newLength_0 10 rfl rfl)
theorem dJ8_newLength_13 : decode cJ8_newLength 13 = .ok (.iload_n 3, 1) := dk_29 (dk_at dksJ8_newLength_0 13 rfl rfl)
theorem dJ8_newLength_14 : decode cJ8_newLength 14 = .ok (.ldc 200, 2) := dk_18 200 (dk_at dksJ8_newLength_0 14 rfl rfl)
theorem dJ8_newLength_16 : decode cJ8_newLength 16 = .ok (.if_icmp .gt 5, 3) := dk_163 0 5 (dk_at dksJ8_newLength_0 16 rfl rfl)
theorem dJ8_newLength_19 : decode cJ8_newLength 19 = .ok (.iload_n 3, 1) := dk_29 (dk_at dksJ8_newLength_0 19 rfl rfl)
theorem dJ8_newLength_20 : decode cJ8_newLength 20 = .ok (.ireturn, 1) := dk_172 (dk_at dksJ8_newLength_0 20 rfl rfl)
theorem dJ8_newLength_21 : decode cJ8_newLength 21 = .ok (.iload_n 0, 1) := dk_26 (dk_at dksJ8_newLength_0 21 rfl rfl)
theorem dJ8_newLength_22 : decode cJ8_newLength 22 = .ok (.iload_n 1, 1) := dk_27 (dk_at dksJ8_newLength_0 22 rfl rfl)
theorem dJ8_newLength_23 : decode cJ8_newLength 23 = .ok (.invokestatic 201, 3) := dk_184 0 201 (dk_at dksJ8_newLength_1 0 rfl rfl)
theorem dJ8_newLength_26 : decode cJ8_newLength 26 = .ok (.ireturn, 1) := dk_172 (dk_at dksJ8_newLength_1 3 rfl rfl)
abbrev cJ8_vectorizedHashCode : ByteArray := prog_69_method_4_code
def yJ8_vectorizedHashCode : MethodName := ⟨RJ8, "vectorizedHashCode", "(Ljava/lang/Object;IIII)I"⟩
def dkwJ8_vectorizedHashCode_6 : List UInt8 := [183, 0, 91, 18, 92, 182, 0, 94, 21, 4, 182, 0, 98, 182, 0, 101, 183, 0, 105, 191, 172]
abbrev dktJ8_vectorizedHashCode_6 : List UInt8 := dkwJ8_vectorizedHashCode_6 ++ []
def dkwJ8_vectorizedHashCode_5 : List UInt8 := [167, 0, 44, 29, 42, 192, 0, 82, 27, 28, 184, 0, 84, 167, 0, 31, 187, 0, 87, 89, 187, 0, 89, 89]
abbrev dktJ8_vectorizedHashCode_5 : List UInt8 := dkwJ8_vectorizedHashCode_5 ++ dktJ8_vectorizedHashCode_6
def dkwJ8_vectorizedHashCode_4 : List UInt8 := [29, 42, 192, 0, 60, 27, 28, 184, 0, 75, 167, 0, 57, 29, 42, 192, 0, 77, 27, 28, 184, 0, 79]
abbrev dktJ8_vectorizedHashCode_4 : List UInt8 := dkwJ8_vectorizedHashCode_4 ++ dktJ8_vectorizedHashCode_5
def dkwJ8_vectorizedHashCode_3 : List UInt8 := [192, 0, 60, 27, 28, 184, 0, 66, 167, 0, 83, 29, 42, 192, 0, 69, 27, 28, 184, 0, 71, 167, 0, 70]
abbrev dktJ8_vectorizedHashCode_3 : List UInt8 := dkwJ8_vectorizedHashCode_3 ++ dktJ8_vectorizedHashCode_4
def dkwJ8_vectorizedHashCode_2 : List UInt8 := [29, 42, 192, 0, 60, 27, 28, 184, 0, 62, 167, 0, 103, 42, 193, 0, 60, 153, 0, 16, 29, 42]
abbrev dktJ8_vectorizedHashCode_2 : List UInt8 := dkwJ8_vectorizedHashCode_2 ++ dktJ8_vectorizedHashCode_3
def dkwJ8_vectorizedHashCode_1 : List UInt8 := [170, 0, 0, 0, 0, 127, 0, 0, 0, 4, 0, 0, 0, 10, 0, 0, 0, 42, 0, 0, 0, 55, 0, 0, 0, 127, 0, 0, 0, 127, 0, 0, 0, 88, 0, 0, 0, 101, 0, 0, 0, 114]
abbrev dktJ8_vectorizedHashCode_1 : List UInt8 := dkwJ8_vectorizedHashCode_1 ++ dktJ8_vectorizedHashCode_2
def dkwJ8_vectorizedHashCode_0 : List UInt8 := [21, 4]
abbrev dktJ8_vectorizedHashCode_0 : List UInt8 := dkwJ8_vectorizedHashCode_0 ++ dktJ8_vectorizedHashCode_1
theorem dksJ8_vectorizedHashCode_0 : cJ8_vectorizedHashCode.data.toList.drop 0 = dktJ8_vectorizedHashCode_0 := by decide +kernel
theorem dksJ8_vectorizedHashCode_1 : cJ8_vectorizedHashCode.data.toList.drop 2 = dktJ8_vectorizedHashCode_1 := dk_seg dksJ8_vectorizedHashCode_0 2 rfl rfl
theorem dksJ8_vectorizedHashCode_2 : cJ8_vectorizedHashCode.data.toList.drop 44 = dktJ8_vectorizedHashCode_2 := dk_seg dksJ8_vectorizedHashCode_1 42 rfl rfl
theorem dksJ8_vectorizedHashCode_3 : cJ8_vectorizedHashCode.data.toList.drop 66 = dktJ8_vectorizedHashCode_3 := dk_seg dksJ8_vectorizedHashCode_2 22 rfl rfl
theorem dksJ8_vectorizedHashCode_4 : cJ8_vectorizedHashCode.data.toList.drop 90 = dktJ8_vectorizedHashCode_4 := dk_seg dksJ8_vectorizedHashCode_3 24 rfl rfl
theorem dksJ8_vectorizedHashCode_5 : cJ8_vectorizedHashCode.data.toList.drop 113 = dktJ8_vectorizedHashCode_5 := dk_seg dksJ8_vectorizedHashCode_4 23 rfl rfl
theorem dksJ8_vectorizedHashCode_6 : cJ8_vectorizedHashCode.data.toList.drop 137 = dktJ8_vectorizedHashCode_6 := dk_seg dksJ8_vectorizedHashCode_5 24 rfl rfl
theorem dJ8_vectorizedHashCode_0 : decode cJ8_vectorizedHashCode 0 = .ok (.iload 4, 2) := dk_21 4 (dk_at dksJ8_vectorizedHashCode_0 0 rfl rfl)
theorem dJ8_vectorizedHashCode_2 : decode cJ8_vectorizedHashCode 2 = .ok (.tableswitch 127 4 10 #[42, 55, 127, 127, 88, 101, 114], 42) := by decide +kernel
theorem dJ8_vectorizedHashCode_44 : decode cJ8_vectorizedHashCode 44 = .ok (.iload_n 3, 1) := dk_29 (dk_at dksJ8_vectorizedHashCode_2 0 rfl rfl)
theorem dJ8_vectorizedHashCode_45 : decode cJ8_vectorizedHashCode 45 = .ok (.aload_n 0, 1) := dk_42 (dk_at dksJ8_vectorizedHashCode_2 1 rfl rfl)
theorem dJ8_vectorizedHashCode_46 : decode cJ8_vectorizedHashCode 46 = .ok (.checkcast 60, 3) := dk_192 0 60 (dk_at dksJ8_vectorizedHashCode_2 2 rfl rfl)
theorem dJ8_vectorizedHashCode_49 : decode cJ8_vectorizedHashCode 49 = .ok (.iload_n 1, 1) := dk_27 (dk_at dksJ8_vectorizedHashCode_2 5 rfl rfl)
theorem dJ8_vectorizedHashCode_50 : decode cJ8_vectorizedHashCode 50 = .ok (.iload_n 2, 1) := dk_28 (dk_at dksJ8_vectorizedHashCode_2 6 rfl rfl)
theorem dJ8_vectorizedHashCode_51 : decode cJ8_vectorizedHashCode 51 = .ok (.invokestatic 62, 3) := dk_184 0 62 (dk_at dksJ8_vectorizedHashCode_2 7 rfl rfl)
theorem dJ8_vectorizedHashCode_54 : decode cJ8_vectorizedHashCode 54 = .ok (.goto 103, 3) := dk_167 0 103 (dk_at dksJ8_vectorizedHashCode_2 10 rfl rfl)
theorem dJ8_vectorizedHashCode_57 : decode cJ8_vectorizedHashCode 57 = .ok (.aload_n 0, 1) := dk_42 (dk_at dksJ8_vectorizedHashCode_2 13 rfl rfl)
theorem dJ8_vectorizedHashCode_58 : decode cJ8_vectorizedHashCode 58 = .ok (.instanceof 60, 3) := dk_193 0 60 (dk_at dksJ8_vectorizedHashCode_2 14 rfl rfl)
theorem dJ8_vectorizedHashCode_61 : decode cJ8_vectorizedHashCode 61 = .ok (.ifCond .eq 16, 3) := dk_153 0 16 (dk_at dksJ8_vectorizedHashCode_2 17 rfl rfl)
theorem dJ8_vectorizedHashCode_64 : decode cJ8_vectorizedHashCode 64 = .ok (.iload_n 3, 1) := dk_29 (dk_at dksJ8_vectorizedHashCode_2 20 rfl rfl)
theorem dJ8_vectorizedHashCode_65 : decode cJ8_vectorizedHashCode 65 = .ok (.aload_n 0, 1) := dk_42 (dk_at dksJ8_vectorizedHashCode_2 21 rfl rfl)
theorem dJ8_vectorizedHashCode_66 : decode cJ8_vectorizedHashCode 66 = .ok (.checkcast 60, 3) := dk_192 0 60 (dk_at dksJ8_vectorizedHashCode_3 0 rfl rfl)
theorem dJ8_vectorizedHashCode_69 : decode cJ8_vectorizedHashCode 69 = .ok (.iload_n 1, 1) := dk_27 (dk_at dksJ8_vectorizedHashCode_3 3 rfl rfl)
theorem dJ8_vectorizedHashCode_70 : decode cJ8_vectorizedHashCode 70 = .ok (.iload_n 2, 1) := dk_28 (dk_at dksJ8_vectorizedHashCode_3 4 rfl rfl)
theorem dJ8_vectorizedHashCode_71 : decode cJ8_vectorizedHashCode 71 = .ok (.invokestatic 66, 3) := dk_184 0 66 (dk_at dksJ8_vectorizedHashCode_3 5 rfl rfl)
theorem dJ8_vectorizedHashCode_74 : decode cJ8_vectorizedHashCode 74 = .ok (.goto 83, 3) := dk_167 0 83 (dk_at dksJ8_vectorizedHashCode_3 8 rfl rfl)
theorem dJ8_vectorizedHashCode_77 : decode cJ8_vectorizedHashCode 77 = .ok (.iload_n 3, 1) := dk_29 (dk_at dksJ8_vectorizedHashCode_3 11 rfl rfl)
theorem dJ8_vectorizedHashCode_78 : decode cJ8_vectorizedHashCode 78 = .ok (.aload_n 0, 1) := dk_42 (dk_at dksJ8_vectorizedHashCode_3 12 rfl rfl)
theorem dJ8_vectorizedHashCode_79 : decode cJ8_vectorizedHashCode 79 = .ok (.checkcast 69, 3) := dk_192 0 69 (dk_at dksJ8_vectorizedHashCode_3 13 rfl rfl)
theorem dJ8_vectorizedHashCode_82 : decode cJ8_vectorizedHashCode 82 = .ok (.iload_n 1, 1) := dk_27 (dk_at dksJ8_vectorizedHashCode_3 16 rfl rfl)
theorem dJ8_vectorizedHashCode_83 : decode cJ8_vectorizedHashCode 83 = .ok (.iload_n 2, 1) := dk_28 (dk_at dksJ8_vectorizedHashCode_3 17 rfl rfl)
theorem dJ8_vectorizedHashCode_84 : decode cJ8_vectorizedHashCode 84 = .ok (.invokestatic 71, 3) := dk_184 0 71 (dk_at dksJ8_vectorizedHashCode_3 18 rfl rfl)
theorem dJ8_vectorizedHashCode_87 : decode cJ8_vectorizedHashCode 87 = .ok (.goto 70, 3) := dk_167 0 70 (dk_at dksJ8_vectorizedHashCode_3 21 rfl rfl)
theorem dJ8_vectorizedHashCode_90 : decode cJ8_vectorizedHashCode 90 = .ok (.iload_n 3, 1) := dk_29 (dk_at dksJ8_vectorizedHashCode_4 0 rfl rfl)
theorem dJ8_vectorizedHashCode_91 : decode cJ8_vectorizedHashCode 91 = .ok (.aload_n 0, 1) := dk_42 (dk_at dksJ8_vectorizedHashCode_4 1 rfl rfl)
theorem dJ8_vectorizedHashCode_92 : decode cJ8_vectorizedHashCode 92 = .ok (.checkcast 60, 3) := dk_192 0 60 (dk_at dksJ8_vectorizedHashCode_4 2 rfl rfl)
theorem dJ8_vectorizedHashCode_95 : decode cJ8_vectorizedHashCode 95 = .ok (.iload_n 1, 1) := dk_27 (dk_at dksJ8_vectorizedHashCode_4 5 rfl rfl)
theorem dJ8_vectorizedHashCode_96 : decode cJ8_vectorizedHashCode 96 = .ok (.iload_n 2, 1) := dk_28 (dk_at dksJ8_vectorizedHashCode_4 6 rfl rfl)
theorem dJ8_vectorizedHashCode_97 : decode cJ8_vectorizedHashCode 97 = .ok (.invokestatic 75, 3) := dk_184 0 75 (dk_at dksJ8_vectorizedHashCode_4 7 rfl rfl)
theorem dJ8_vectorizedHashCode_100 : decode cJ8_vectorizedHashCode 100 = .ok (.goto 57, 3) := dk_167 0 57 (dk_at dksJ8_vectorizedHashCode_4 10 rfl rfl)
theorem dJ8_vectorizedHashCode_103 : decode cJ8_vectorizedHashCode 103 = .ok (.iload_n 3, 1) := dk_29 (dk_at dksJ8_vectorizedHashCode_4 13 rfl rfl)
theorem dJ8_vectorizedHashCode_104 : decode cJ8_vectorizedHashCode 104 = .ok (.aload_n 0, 1) := dk_42 (dk_at dksJ8_vectorizedHashCode_4 14 rfl rfl)
theorem dJ8_vectorizedHashCode_105 : decode cJ8_vectorizedHashCode 105 = .ok (.checkcast 77, 3) := dk_192 0 77 (dk_at dksJ8_vectorizedHashCode_4 15 rfl rfl)
theorem dJ8_vectorizedHashCode_108 : decode cJ8_vectorizedHashCode 108 = .ok (.iload_n 1, 1) := dk_27 (dk_at dksJ8_vectorizedHashCode_4 18 rfl rfl)
theorem dJ8_vectorizedHashCode_109 : decode cJ8_vectorizedHashCode 109 = .ok (.iload_n 2, 1) := dk_28 (dk_at dksJ8_vectorizedHashCode_4 19 rfl rfl)
theorem dJ8_vectorizedHashCode_110 : decode cJ8_vectorizedHashCode 110 = .ok (.invokestatic 79, 3) := dk_184 0 79 (dk_at dksJ8_vectorizedHashCode_4 20 rfl rfl)
theorem dJ8_vectorizedHashCode_113 : decode cJ8_vectorizedHashCode 113 = .ok (.goto 44, 3) := dk_167 0 44 (dk_at dksJ8_vectorizedHashCode_5 0 rfl rfl)
theorem dJ8_vectorizedHashCode_116 : decode cJ8_vectorizedHashCode 116 = .ok (.iload_n 3, 1) := dk_29 (dk_at dksJ8_vectorizedHashCode_5 3 rfl rfl)
theorem dJ8_vectorizedHashCode_117 : decode cJ8_vectorizedHashCode 117 = .ok (.aload_n 0, 1) := dk_42 (dk_at dksJ8_vectorizedHashCode_5 4 rfl rfl)
theorem dJ8_vectorizedHashCode_118 : decode cJ8_vectorizedHashCode 118 = .ok (.checkcast 82, 3) := dk_192 0 82 (dk_at dksJ8_vectorizedHashCode_5 5 rfl rfl)
theorem dJ8_vectorizedHashCode_121 : decode cJ8_vectorizedHashCode 121 = .ok (.iload_n 1, 1) := dk_27 (dk_at dksJ8_vectorizedHashCode_5 8 rfl rfl)
theorem dJ8_vectorizedHashCode_122 : decode cJ8_vectorizedHashCode 122 = .ok (.iload_n 2, 1) := dk_28 (dk_at dksJ8_vectorizedHashCode_5 9 rfl rfl)
theorem dJ8_vectorizedHashCode_123 : decode cJ8_vectorizedHashCode 123 = .ok (.invokestatic 84, 3) := dk_184 0 84 (dk_at dksJ8_vectorizedHashCode_5 10 rfl rfl)
theorem dJ8_vectorizedHashCode_126 : decode cJ8_vectorizedHashCode 126 = .ok (.goto 31, 3) := dk_167 0 31 (dk_at dksJ8_vectorizedHashCode_5 13 rfl rfl)
theorem dJ8_vectorizedHashCode_129 : decode cJ8_vectorizedHashCode 129 = .ok (.new 87, 3) := dk_187 0 87 (dk_at dksJ8_vectorizedHashCode_5 16 rfl rfl)
theorem dJ8_vectorizedHashCode_132 : decode cJ8_vectorizedHashCode 132 = .ok (.dup, 1) := dk_89 (dk_at dksJ8_vectorizedHashCode_5 19 rfl rfl)
theorem dJ8_vectorizedHashCode_133 : decode cJ8_vectorizedHashCode 133 = .ok (.new 89, 3) := dk_187 0 89 (dk_at dksJ8_vectorizedHashCode_5 20 rfl rfl)
theorem dJ8_vectorizedHashCode_136 : decode cJ8_vectorizedHashCode 136 = .ok (.dup, 1) := dk_89 (dk_at dksJ8_vectorizedHashCode_5 23 rfl rfl)
theorem dJ8_vectorizedHashCode_137 : decode cJ8_vectorizedHashCode 137 = .ok (.invokespecial 91, 3) := dk_183 0 91 (dk_at dksJ8_vectorizedHashCode_6 0 rfl rfl)
theorem dJ8_vectorizedHashCode_140 : decode cJ8_vectorizedHashCode 140 = .ok (.ldc 92, 2) := dk_18 92 (dk_at dksJ8_vectorizedHashCode_6 3 rfl rfl)
theorem dJ8_vectorizedHashCode_142 : decode cJ8_vectorizedHashCode 142 = .ok (.invokevirtual 94, 3) := dk_182 0 94 (dk_at dksJ8_vectorizedHashCode_6 5 rfl rfl)
theorem dJ8_vectorizedHashCode_145 : decode cJ8_vectorizedHashCode 145 = .ok (.iload 4, 2) := dk_21 4 (dk_at dksJ8_vectorizedHashCode_6 8 rfl rfl)
theorem dJ8_vectorizedHashCode_147 : decode cJ8_vectorizedHashCode 147 = .ok (.invokevirtual 98, 3) := dk_182 0 98 (dk_at dksJ8_vectorizedHashCode_6 10 rfl rfl)
theorem dJ8_vectorizedHashCode_150 : decode cJ8_vectorizedHashCode 150 = .ok (.invokevirtual 101, 3) := dk_182 0 101 (dk_at dksJ8_vectorizedHashCode_6 13 rfl rfl)
theorem dJ8_vectorizedHashCode_153 : decode cJ8_vectorizedHashCode 153 = .ok (.invokespecial 105, 3) := dk_183 0 105 (dk_at dksJ8_vectorizedHashCode_6 16 rfl rfl)
theorem dJ8_vectorizedHashCode_156 : decode cJ8_vectorizedHashCode 156 = .ok (.athrow, 1) := dk_191 (dk_at dksJ8_vectorizedHashCode_6 19 rfl rfl)
theorem dJ8_vectorizedHashCode_157 : decode cJ8_vectorizedHashCode 157 = .ok (.ireturn, 1) := dk_172 (dk_at dksJ8_vectorizedHashCode_6 20 rfl rfl)
abbrev cJ8_signedHashCode : ByteArray := prog_69_method_5_code
def yJ8_signedHashCode : MethodName := ⟨RJ8, "signedHashCode", "(I[BII)I"⟩
def dkwJ8_signedHashCode_1 : List UInt8 := [17, 0, 255, 126, 96, 59, 132, 5, 1, 167, 255, 232, 26, 172]
abbrev dktJ8_signedHashCode_1 : List UInt8 := dkwJ8_signedHashCode_1 ++ []
def dkwJ8_signedHashCode_0 : List UInt8 := [28, 29, 96, 54, 4, 28, 54, 5, 21, 5, 21, 4, 162, 0, 23, 16, 31, 26, 104, 43, 21, 5, 51]
abbrev dktJ8_signedHashCode_0 : List UInt8 := dkwJ8_signedHashCode_0 ++ dktJ8_signedHashCode_1
theorem dksJ8_signedHashCode_0 : cJ8_signedHashCode.data.toList.drop 0 = dktJ8_signedHashCode_0 := by decide +kernel
theorem dksJ8_signedHashCode_1 : cJ8_signedHashCode.data.toList.drop 23 = dktJ8_signedHashCode_1 := dk_seg dksJ8_signedHashCode_0 23 rfl rfl
theorem dJ8_signedHashCode_0 : decode cJ8_signedHashCode 0 = .ok (.iload_n 2, 1) := dk_28 (dk_at dksJ8_signedHashCode_0 0 rfl rfl)
theorem dJ8_signedHashCode_1 : decode cJ8_signedHashCode 1 = .ok (.iload_n 3, 1) := dk_29 (dk_at dksJ8_signedHashCode_0 1 rfl rfl)
theorem dJ8_signedHashCode_2 : decode cJ8_signedHashCode 2 = .ok (.iadd, 1) := dk_96 (dk_at dksJ8_signedHashCode_0 2 rfl rfl)
theorem dJ8_signedHashCode_3 : decode cJ8_signedHashCode 3 = .ok (.istore 4, 2) := dk_54 4 (dk_at dksJ8_signedHashCode_0 3 rfl rfl)
theorem dJ8_signedHashCode_5 : decode cJ8_signedHashCode 5 = .ok (.iload_n 2, 1) := dk_28 (dk_at dksJ8_signedHashCode_0 5 rfl rfl)
theorem dJ8_signedHashCode_6 : decode cJ8_signedHashCode 6 = .ok (.istore 5, 2) := dk_54 5 (dk_at dksJ8_signedHashCode_0 6 rfl rfl)
theorem dJ8_signedHashCode_8 : decode cJ8_signedHashCode 8 = .ok (.iload 5, 2) := dk_21 5 (dk_at dksJ8_signedHashCode_0 8 rfl rfl)
theorem dJ8_signedHashCode_10 : decode cJ8_signedHashCode 10 = .ok (.iload 4, 2) := dk_21 4 (dk_at dksJ8_signedHashCode_0 10 rfl rfl)
theorem dJ8_signedHashCode_12 : decode cJ8_signedHashCode 12 = .ok (.if_icmp .ge 23, 3) := dk_162 0 23 (dk_at dksJ8_signedHashCode_0 12 rfl rfl)
theorem dJ8_signedHashCode_15 : decode cJ8_signedHashCode 15 = .ok (.bipush 31, 2) := dk_16 31 (dk_at dksJ8_signedHashCode_0 15 rfl rfl)
theorem dJ8_signedHashCode_17 : decode cJ8_signedHashCode 17 = .ok (.iload_n 0, 1) := dk_26 (dk_at dksJ8_signedHashCode_0 17 rfl rfl)
theorem dJ8_signedHashCode_18 : decode cJ8_signedHashCode 18 = .ok (.imul, 1) := dk_104 (dk_at dksJ8_signedHashCode_0 18 rfl rfl)
theorem dJ8_signedHashCode_19 : decode cJ8_signedHashCode 19 = .ok (.aload_n 1, 1) := dk_43 (dk_at dksJ8_signedHashCode_0 19 rfl rfl)
theorem dJ8_signedHashCode_20 : decode cJ8_signedHashCode 20 = .ok (.iload 5, 2) := dk_21 5 (dk_at dksJ8_signedHashCode_0 20 rfl rfl)
theorem dJ8_signedHashCode_22 : decode cJ8_signedHashCode 22 = .ok (.baload, 1) := dk_51 (dk_at dksJ8_signedHashCode_0 22 rfl rfl)
theorem dJ8_signedHashCode_23 : decode cJ8_signedHashCode 23 = .ok (.sipush 255, 3) := dk_17 0 255 (dk_at dksJ8_signedHashCode_1 0 rfl rfl)
theorem dJ8_signedHashCode_26 : decode cJ8_signedHashCode 26 = .ok (.iand, 1) := dk_126 (dk_at dksJ8_signedHashCode_1 3 rfl rfl)
theorem dJ8_signedHashCode_27 : decode cJ8_signedHashCode 27 = .ok (.iadd, 1) := dk_96 (dk_at dksJ8_signedHashCode_1 4 rfl rfl)
theorem dJ8_signedHashCode_28 : decode cJ8_signedHashCode 28 = .ok (.istore_n 0, 1) := dk_59 (dk_at dksJ8_signedHashCode_1 5 rfl rfl)
theorem dJ8_signedHashCode_29 : decode cJ8_signedHashCode 29 = .ok (.iinc 5 1, 3) := dk_132 5 1 (dk_at dksJ8_signedHashCode_1 6 rfl rfl)
theorem dJ8_signedHashCode_32 : decode cJ8_signedHashCode 32 = .ok (.goto (-24), 3) := dk_167 255 232 (dk_at dksJ8_signedHashCode_1 9 rfl rfl)
theorem dJ8_signedHashCode_35 : decode cJ8_signedHashCode 35 = .ok (.iload_n 0, 1) := dk_26 (dk_at dksJ8_signedHashCode_1 12 rfl rfl)
theorem dJ8_signedHashCode_36 : decode cJ8_signedHashCode 36 = .ok (.ireturn, 1) := dk_172 (dk_at dksJ8_signedHashCode_1 13 rfl rfl)
abbrev cJ8_mismatch : ByteArray := prog_69_method_13_code
def yJ8_mismatch : MethodName := ⟨RJ8, "mismatch", "([B[BI)I"⟩
def dkwJ8_mismatch_3 : List UInt8 := [172]
abbrev dktJ8_mismatch_3 : List UInt8 := dkwJ8_mismatch_3 ++ []
def dkwJ8_mismatch_2 : List UInt8 := [62, 29, 28, 162, 0, 20, 42, 29, 51, 43, 29, 51, 159, 0, 5, 29, 172, 132, 3, 1, 167, 255, 237, 2]
abbrev dktJ8_mismatch_2 : List UInt8 := dkwJ8_mismatch_2 ++ dktJ8_mismatch_3
def dkwJ8_mismatch_1 : List UInt8 := [43, 178, 0, 126, 133, 28, 178, 0, 129, 184, 0, 122, 62, 29, 155, 0, 5, 29, 172, 28, 29, 2, 130, 100]
abbrev dktJ8_mismatch_1 : List UInt8 := dkwJ8_mismatch_1 ++ dktJ8_mismatch_2
def dkwJ8_mismatch_0 : List UInt8 := [3, 62, 28, 16, 7, 164, 0, 44, 42, 3, 51, 43, 3, 51, 159, 0, 5, 3, 172, 42, 178, 0, 126, 133]
abbrev dktJ8_mismatch_0 : List UInt8 := dkwJ8_mismatch_0 ++ dktJ8_mismatch_1
theorem dksJ8_mismatch_0 : cJ8_mismatch.data.toList.drop 0 = dktJ8_mismatch_0 := by decide +kernel
theorem dksJ8_mismatch_1 : cJ8_mismatch.data.toList.drop 24 = dktJ8_mismatch_1 := dk_seg dksJ8_mismatch_0 24 rfl rfl
theorem dksJ8_mismatch_2 : cJ8_mismatch.data.toList.drop 48 = dktJ8_mismatch_2 := dk_seg dksJ8_mismatch_1 24 rfl rfl
theorem dksJ8_mismatch_3 : cJ8_mismatch.data.toList.drop 72 = dktJ8_mismatch_3 := dk_seg dksJ8_mismatch_2 24 rfl rfl
theorem dJ8_mismatch_0 : decode cJ8_mismatch 0 = .ok (.iconst 0, 1) := dk_3 (dk_at dksJ8_mismatch_0 0 rfl rfl)
theorem dJ8_mismatch_1 : decode cJ8_mismatch 1 = .ok (.istore_n 3, 1) := dk_62 (dk_at dksJ8_mismatch_0 1 rfl rfl)
theorem dJ8_mismatch_2 : decode cJ8_mismatch 2 = .ok (.iload_n 2, 1) := dk_28 (dk_at dksJ8_mismatch_0 2 rfl rfl)
theorem dJ8_mismatch_3 : decode cJ8_mismatch 3 = .ok (.bipush 7, 2) := dk_16 7 (dk_at dksJ8_mismatch_0 3 rfl rfl)
theorem dJ8_mismatch_5 : decode cJ8_mismatch 5 = .ok (.if_icmp .le 44, 3) := dk_164 0 44 (dk_at dksJ8_mismatch_0 5 rfl rfl)
theorem dJ8_mismatch_8 : decode cJ8_mismatch 8 = .ok (.aload_n 0, 1) := dk_42 (dk_at dksJ8_mismatch_0 8 rfl rfl)
theorem dJ8_mismatch_9 : decode cJ8_mismatch 9 = .ok (.iconst 0, 1) := dk_3 (dk_at dksJ8_mismatch_0 9 rfl rfl)
theorem dJ8_mismatch_10 : decode cJ8_mismatch 10 = .ok (.baload, 1) := dk_51 (dk_at dksJ8_mismatch_0 10 rfl rfl)
theorem dJ8_mismatch_11 : decode cJ8_mismatch 11 = .ok (.aload_n 1, 1) := dk_43 (dk_at dksJ8_mismatch_0 11 rfl rfl)
theorem dJ8_mismatch_12 : decode cJ8_mismatch 12 = .ok (.iconst 0, 1) := dk_3 (dk_at dksJ8_mismatch_0 12 rfl rfl)
theorem dJ8_mismatch_13 : decode cJ8_mismatch 13 = .ok (.baload, 1) := dk_51 (dk_at dksJ8_mismatch_0 13 rfl rfl)
theorem dJ8_mismatch_14 : decode cJ8_mismatch 14 = .ok (.if_icmp .eq 5, 3) := dk_159 0 5 (dk_at dksJ8_mismatch_0 14 rfl rfl)
theorem dJ8_mismatch_17 : decode cJ8_mismatch 17 = .ok (.iconst 0, 1) := dk_3 (dk_at dksJ8_mismatch_0 17 rfl rfl)
theorem dJ8_mismatch_18 : decode cJ8_mismatch 18 = .ok (.ireturn, 1) := dk_172 (dk_at dksJ8_mismatch_0 18 rfl rfl)
theorem dJ8_mismatch_19 : decode cJ8_mismatch 19 = .ok (.aload_n 0, 1) := dk_42 (dk_at dksJ8_mismatch_0 19 rfl rfl)
theorem dJ8_mismatch_20 : decode cJ8_mismatch 20 = .ok (.getstatic 126, 3) := dk_178 0 126 (dk_at dksJ8_mismatch_0 20 rfl rfl)
theorem dJ8_mismatch_23 : decode cJ8_mismatch 23 = .ok (.i2l, 1) := dk_133 (dk_at dksJ8_mismatch_0 23 rfl rfl)
theorem dJ8_mismatch_24 : decode cJ8_mismatch 24 = .ok (.aload_n 1, 1) := dk_43 (dk_at dksJ8_mismatch_1 0 rfl rfl)
theorem dJ8_mismatch_25 : decode cJ8_mismatch 25 = .ok (.getstatic 126, 3) := dk_178 0 126 (dk_at dksJ8_mismatch_1 1 rfl rfl)
theorem dJ8_mismatch_28 : decode cJ8_mismatch 28 = .ok (.i2l, 1) := dk_133 (dk_at dksJ8_mismatch_1 4 rfl rfl)
theorem dJ8_mismatch_29 : decode cJ8_mismatch 29 = .ok (.iload_n 2, 1) := dk_28 (dk_at dksJ8_mismatch_1 5 rfl rfl)
theorem dJ8_mismatch_30 : decode cJ8_mismatch 30 = .ok (.getstatic 129, 3) := dk_178 0 129 (dk_at dksJ8_mismatch_1 6 rfl rfl)
theorem dJ8_mismatch_33 : decode cJ8_mismatch 33 = .ok (.invokestatic 122, 3) := dk_184 0 122 (dk_at dksJ8_mismatch_1 9 rfl rfl)
theorem dJ8_mismatch_36 : decode cJ8_mismatch 36 = .ok (.istore_n 3, 1) := dk_62 (dk_at dksJ8_mismatch_1 12 rfl rfl)
theorem dJ8_mismatch_37 : decode cJ8_mismatch 37 = .ok (.iload_n 3, 1) := dk_29 (dk_at dksJ8_mismatch_1 13 rfl rfl)
theorem dJ8_mismatch_38 : decode cJ8_mismatch 38 = .ok (.ifCond .lt 5, 3) := dk_155 0 5 (dk_at dksJ8_mismatch_1 14 rfl rfl)
theorem dJ8_mismatch_41 : decode cJ8_mismatch 41 = .ok (.iload_n 3, 1) := dk_29 (dk_at dksJ8_mismatch_1 17 rfl rfl)
theorem dJ8_mismatch_42 : decode cJ8_mismatch 42 = .ok (.ireturn, 1) := dk_172 (dk_at dksJ8_mismatch_1 18 rfl rfl)
theorem dJ8_mismatch_43 : decode cJ8_mismatch 43 = .ok (.iload_n 2, 1) := dk_28 (dk_at dksJ8_mismatch_1 19 rfl rfl)
theorem dJ8_mismatch_44 : decode cJ8_mismatch 44 = .ok (.iload_n 3, 1) := dk_29 (dk_at dksJ8_mismatch_1 20 rfl rfl)
theorem dJ8_mismatch_45 : decode cJ8_mismatch 45 = .ok (.iconst (-1), 1) := dk_2 (dk_at dksJ8_mismatch_1 21 rfl rfl)
theorem dJ8_mismatch_46 : decode cJ8_mismatch 46 = .ok (.ixor, 1) := dk_130 (dk_at dksJ8_mismatch_1 22 rfl rfl)
theorem dJ8_mismatch_47 : decode cJ8_mismatch 47 = .ok (.isub, 1) := dk_100 (dk_at dksJ8_mismatch_1 23 rfl rfl)
theorem dJ8_mismatch_48 : decode cJ8_mismatch 48 = .ok (.istore_n 3, 1) := dk_62 (dk_at dksJ8_mismatch_2 0 rfl rfl)
theorem dJ8_mismatch_49 : decode cJ8_mismatch 49 = .ok (.iload_n 3, 1) := dk_29 (dk_at dksJ8_mismatch_2 1 rfl rfl)
theorem dJ8_mismatch_50 : decode cJ8_mismatch 50 = .ok (.iload_n 2, 1) := dk_28 (dk_at dksJ8_mismatch_2 2 rfl rfl)
theorem dJ8_mismatch_51 : decode cJ8_mismatch 51 = .ok (.if_icmp .ge 20, 3) := dk_162 0 20 (dk_at dksJ8_mismatch_2 3 rfl rfl)
theorem dJ8_mismatch_54 : decode cJ8_mismatch 54 = .ok (.aload_n 0, 1) := dk_42 (dk_at dksJ8_mismatch_2 6 rfl rfl)
theorem dJ8_mismatch_55 : decode cJ8_mismatch 55 = .ok (.iload_n 3, 1) := dk_29 (dk_at dksJ8_mismatch_2 7 rfl rfl)
theorem dJ8_mismatch_56 : decode cJ8_mismatch 56 = .ok (.baload, 1) := dk_51 (dk_at dksJ8_mismatch_2 8 rfl rfl)
theorem dJ8_mismatch_57 : decode cJ8_mismatch 57 = .ok (.aload_n 1, 1) := dk_43 (dk_at dksJ8_mismatch_2 9 rfl rfl)
theorem dJ8_mismatch_58 : decode cJ8_mismatch 58 = .ok (.iload_n 3, 1) := dk_29 (dk_at dksJ8_mismatch_2 10 rfl rfl)
theorem dJ8_mismatch_59 : decode cJ8_mismatch 59 = .ok (.baload, 1) := dk_51 (dk_at dksJ8_mismatch_2 11 rfl rfl)
theorem dJ8_mismatch_60 : decode cJ8_mismatch 60 = .ok (.if_icmp .eq 5, 3) := dk_159 0 5 (dk_at dksJ8_mismatch_2 12 rfl rfl)
theorem dJ8_mismatch_63 : decode cJ8_mismatch 63 = .ok (.iload_n 3, 1) := dk_29 (dk_at dksJ8_mismatch_2 15 rfl rfl)
theorem dJ8_mismatch_64 : decode cJ8_mismatch 64 = .ok (.ireturn, 1) := dk_172 (dk_at dksJ8_mismatch_2 16 rfl rfl)
theorem dJ8_mismatch_65 : decode cJ8_mismatch 65 = .ok (.iinc 3 1, 3) := dk_132 3 1 (dk_at dksJ8_mismatch_2 17 rfl rfl)
theorem dJ8_mismatch_68 : decode cJ8_mismatch 68 = .ok (.goto (-19), 3) := dk_167 255 237 (dk_at dksJ8_mismatch_2 20 rfl rfl)
theorem dJ8_mismatch_71 : decode cJ8_mismatch 71 = .ok (.iconst (-1), 1) := dk_2 (dk_at dksJ8_mismatch_2 23 rfl rfl)
theorem dJ8_mismatch_72 : decode cJ8_mismatch 72 = .ok (.ireturn, 1) := dk_172 (dk_at dksJ8_mismatch_3 0 rfl rfl)
abbrev cJ8_vectorizedMismatch : ByteArray := prog_69_method_3_code
def yJ8_vectorizedMismatch : MethodName := ⟨RJ8, "vectorizedMismatch", "(Ljava/lang/Object;JLjava/lang/Object;JII)I"⟩
def dkwJ8_vectorizedMismatch_11 : List UInt8 := [54, 10, 21, 10, 2, 130, 172, 21, 10, 2, 130, 172]
abbrev dktJ8_vectorizedMismatch_11 : List UInt8 := dkwJ8_vectorizedMismatch_11 ++ []
def dkwJ8_vectorizedMismatch_10 : List UInt8 := [178, 0, 46, 21, 7, 96, 122, 54, 17, 21, 9, 21, 8, 120, 21, 17, 96, 172, 21, 10, 21, 11, 100]
abbrev dktJ8_vectorizedMismatch_10 : List UInt8 := dkwJ8_vectorizedMismatch_10 ++ dktJ8_vectorizedMismatch_11
def dkwJ8_vectorizedMismatch_9 : List UInt8 := [153, 0, 18, 21, 16, 184, 0, 58, 178, 0, 46, 21, 7, 96, 122, 167, 0, 15, 21, 16, 184, 0, 11]
abbrev dktJ8_vectorizedMismatch_9 : List UInt8 := dkwJ8_vectorizedMismatch_9 ++ dktJ8_vectorizedMismatch_10
def dkwJ8_vectorizedMismatch_8 : List UInt8 := [182, 0, 54, 54, 15, 21, 14, 21, 15, 159, 0, 54, 21, 14, 21, 15, 130, 54, 16, 178, 0, 36]
abbrev dktJ8_vectorizedMismatch_8 : List UInt8 := dkwJ8_vectorizedMismatch_8 ++ dktJ8_vectorizedMismatch_9
def dkwJ8_vectorizedMismatch_7 : List UInt8 := [55, 12, 178, 0, 26, 42, 31, 22, 12, 97, 182, 0, 54, 54, 14, 178, 0, 26, 45, 22, 4, 22, 12, 97]
abbrev dktJ8_vectorizedMismatch_7 : List UInt8 := dkwJ8_vectorizedMismatch_7 ++ dktJ8_vectorizedMismatch_8
def dkwJ8_vectorizedMismatch_6 : List UInt8 := [4, 178, 0, 51, 21, 7, 100, 120, 54, 11, 21, 10, 21, 11, 161, 0, 104, 21, 9, 133, 178, 0, 20, 121]
abbrev dktJ8_vectorizedMismatch_6 : List UInt8 := dkwJ8_vectorizedMismatch_6 ++ dktJ8_vectorizedMismatch_7
def dkwJ8_vectorizedMismatch_5 : List UInt8 := [132, 9, 1, 167, 255, 148, 21, 6, 21, 9, 21, 8, 120, 100, 54, 10, 21, 7, 178, 0, 51, 162, 0, 126]
abbrev dktJ8_vectorizedMismatch_5 : List UInt8 := dkwJ8_vectorizedMismatch_5 ++ dktJ8_vectorizedMismatch_6
def dkwJ8_vectorizedMismatch_4 : List UInt8 := [22, 16, 184, 0, 49, 178, 0, 46, 21, 7, 96, 122, 54, 18, 21, 9, 21, 8, 120, 21, 18, 96, 172]
abbrev dktJ8_vectorizedMismatch_4 : List UInt8 := dkwJ8_vectorizedMismatch_4 ++ dktJ8_vectorizedMismatch_5
def dkwJ8_vectorizedMismatch_3 : List UInt8 := [55, 16, 178, 0, 36, 153, 0, 18, 22, 16, 184, 0, 40, 178, 0, 46, 21, 7, 96, 122, 167, 0, 15]
abbrev dktJ8_vectorizedMismatch_3 : List UInt8 := dkwJ8_vectorizedMismatch_3 ++ dktJ8_vectorizedMismatch_4
def dkwJ8_vectorizedMismatch_2 : List UInt8 := [22, 4, 22, 10, 97, 182, 0, 30, 55, 14, 22, 12, 22, 14, 148, 153, 0, 54, 22, 12, 22, 14, 131]
abbrev dktJ8_vectorizedMismatch_2 : List UInt8 := dkwJ8_vectorizedMismatch_2 ++ dktJ8_vectorizedMismatch_3
def dkwJ8_vectorizedMismatch_1 : List UInt8 := [178, 0, 20, 121, 55, 10, 178, 0, 26, 42, 31, 22, 10, 97, 182, 0, 30, 55, 12, 178, 0, 26, 45]
abbrev dktJ8_vectorizedMismatch_1 : List UInt8 := dkwJ8_vectorizedMismatch_1 ++ dktJ8_vectorizedMismatch_2
def dkwJ8_vectorizedMismatch_0 : List UInt8 := [178, 0, 20, 21, 7, 100, 54, 8, 3, 54, 9, 21, 9, 21, 6, 21, 8, 122, 162, 0, 104, 21, 9, 133]
abbrev dktJ8_vectorizedMismatch_0 : List UInt8 := dkwJ8_vectorizedMismatch_0 ++ dktJ8_vectorizedMismatch_1
theorem dksJ8_vectorizedMismatch_0 : cJ8_vectorizedMismatch.data.toList.drop 0 = dktJ8_vectorizedMismatch_0 := by decide +kernel
theorem dksJ8_vectorizedMismatch_1 : cJ8_vectorizedMismatch.data.toList.drop 24 = dktJ8_vectorizedMismatch_1 := dk_seg dksJ8_vectorizedMismatch_0 24 rfl rfl
theorem dksJ8_vectorizedMismatch_2 : cJ8_vectorizedMismatch.data.toList.drop 47 = dktJ8_vectorizedMismatch_2 := dk_seg dksJ8_vectorizedMismatch_1 23 rfl rfl
theorem dksJ8_vectorizedMismatch_3 : cJ8_vectorizedMismatch.data.toList.drop 70 = dktJ8_vectorizedMismatch_3 := dk_seg dksJ8_vectorizedMismatch_2 23 rfl rfl
theorem dksJ8_vectorizedMismatch_4 : cJ8_vectorizedMismatch.data.toList.drop 93 = dktJ8_vectorizedMismatch_4 := dk_seg dksJ8_vectorizedMismatch_3 23 rfl rfl
theorem dksJ8_vectorizedMismatch_5 : cJ8_vectorizedMismatch.data.toList.drop 116 = dktJ8_vectorizedMismatch_5 := dk_seg dksJ8_vectorizedMismatch_4 23 rfl rfl
theorem dksJ8_vectorizedMismatch_6 : cJ8_vectorizedMismatch.data.toList.drop 140 = dktJ8_vectorizedMismatch_6 := dk_seg dksJ8_vectorizedMismatch_5 24 rfl rfl
theorem dksJ8_vectorizedMismatch_7 : cJ8_vectorizedMismatch.data.toList.drop 164 = dktJ8_vectorizedMismatch_7 := dk_seg dksJ8_vectorizedMismatch_6 24 rfl rfl
theorem dksJ8_vectorizedMismatch_8 : cJ8_vectorizedMismatch.data.toList.drop 188 = dktJ8_vectorizedMismatch_8 := dk_seg dksJ8_vectorizedMismatch_7 24 rfl rfl
theorem dksJ8_vectorizedMismatch_9 : cJ8_vectorizedMismatch.data.toList.drop 210 = dktJ8_vectorizedMismatch_9 := dk_seg dksJ8_vectorizedMismatch_8 22 rfl rfl
theorem dksJ8_vectorizedMismatch_10 : cJ8_vectorizedMismatch.data.toList.drop 233 = dktJ8_vectorizedMismatch_10 := dk_seg dksJ8_vectorizedMismatch_9 23 rfl rfl
theorem dksJ8_vectorizedMismatch_11 : cJ8_vectorizedMismatch.data.toList.drop 256 = dktJ8_vectorizedMismatch_11 := dk_seg dksJ8_vectorizedMismatch_10 23 rfl rfl
theorem dJ8_vectorizedMismatch_0 : decode cJ8_vectorizedMismatch 0 = .ok (.getstatic 20, 3) := dk_178 0 20 (dk_at dksJ8_vectorizedMismatch_0 0 rfl rfl)
theorem dJ8_vectorizedMismatch_3 : decode cJ8_vectorizedMismatch 3 = .ok (.iload 7, 2) := dk_21 7 (dk_at dksJ8_vectorizedMismatch_0 3 rfl rfl)
theorem dJ8_vectorizedMismatch_5 : decode cJ8_vectorizedMismatch 5 = .ok (.isub, 1) := dk_100 (dk_at dksJ8_vectorizedMismatch_0 5 rfl rfl)
theorem dJ8_vectorizedMismatch_6 : decode cJ8_vectorizedMismatch 6 = .ok (.istore 8, 2) := dk_54 8 (dk_at dksJ8_vectorizedMismatch_0 6 rfl rfl)
theorem dJ8_vectorizedMismatch_8 : decode cJ8_vectorizedMismatch 8 = .ok (.iconst 0, 1) := dk_3 (dk_at dksJ8_vectorizedMismatch_0 8 rfl rfl)
theorem dJ8_vectorizedMismatch_9 : decode cJ8_vectorizedMismatch 9 = .ok (.istore 9, 2) := dk_54 9 (dk_at dksJ8_vectorizedMismatch_0 9 rfl rfl)
theorem dJ8_vectorizedMismatch_11 : decode cJ8_vectorizedMismatch 11 = .ok (.iload 9, 2) := dk_21 9 (dk_at dksJ8_vectorizedMismatch_0 11 rfl rfl)
theorem dJ8_vectorizedMismatch_13 : decode cJ8_vectorizedMismatch 13 = .ok (.iload 6, 2) := dk_21 6 (dk_at dksJ8_vectorizedMismatch_0 13 rfl rfl)
theorem dJ8_vectorizedMismatch_15 : decode cJ8_vectorizedMismatch 15 = .ok (.iload 8, 2) := dk_21 8 (dk_at dksJ8_vectorizedMismatch_0 15 rfl rfl)
theorem dJ8_vectorizedMismatch_17 : decode cJ8_vectorizedMismatch 17 = .ok (.ishr, 1) := dk_122 (dk_at dksJ8_vectorizedMismatch_0 17 rfl rfl)
theorem dJ8_vectorizedMismatch_18 : decode cJ8_vectorizedMismatch 18 = .ok (.if_icmp .ge 104, 3) := dk_162 0 104 (dk_at dksJ8_vectorizedMismatch_0 18 rfl rfl)
theorem dJ8_vectorizedMismatch_21 : decode cJ8_vectorizedMismatch 21 = .ok (.iload 9, 2) := dk_21 9 (dk_at dksJ8_vectorizedMismatch_0 21 rfl rfl)
theorem dJ8_vectorizedMismatch_23 : decode cJ8_vectorizedMismatch 23 = .ok (.i2l, 1) := dk_133 (dk_at dksJ8_vectorizedMismatch_0 23 rfl rfl)
theorem dJ8_vectorizedMismatch_24 : decode cJ8_vectorizedMismatch 24 = .ok (.getstatic 20, 3) := dk_178 0 20 (dk_at dksJ8_vectorizedMismatch_1 0 rfl rfl)
theorem dJ8_vectorizedMismatch_27 : decode cJ8_vectorizedMismatch 27 = .ok (.lshl, 1) := dk_121 (dk_at dksJ8_vectorizedMismatch_1 3 rfl rfl)
theorem dJ8_vectorizedMismatch_28 : decode cJ8_vectorizedMismatch 28 = .ok (.lstore 10, 2) := dk_55 10 (dk_at dksJ8_vectorizedMismatch_1 4 rfl rfl)
theorem dJ8_vectorizedMismatch_30 : decode cJ8_vectorizedMismatch 30 = .ok (.getstatic 26, 3) := dk_178 0 26 (dk_at dksJ8_vectorizedMismatch_1 6 rfl rfl)
theorem dJ8_vectorizedMismatch_33 : decode cJ8_vectorizedMismatch 33 = .ok (.aload_n 0, 1) := dk_42 (dk_at dksJ8_vectorizedMismatch_1 9 rfl rfl)
theorem dJ8_vectorizedMismatch_34 : decode cJ8_vectorizedMismatch 34 = .ok (.lload_n 1, 1) := dk_31 (dk_at dksJ8_vectorizedMismatch_1 10 rfl rfl)
theorem dJ8_vectorizedMismatch_35 : decode cJ8_vectorizedMismatch 35 = .ok (.lload 10, 2) := dk_22 10 (dk_at dksJ8_vectorizedMismatch_1 11 rfl rfl)
theorem dJ8_vectorizedMismatch_37 : decode cJ8_vectorizedMismatch 37 = .ok (.ladd, 1) := dk_97 (dk_at dksJ8_vectorizedMismatch_1 13 rfl rfl)
theorem dJ8_vectorizedMismatch_38 : decode cJ8_vectorizedMismatch 38 = .ok (.invokevirtual 30, 3) := dk_182 0 30 (dk_at dksJ8_vectorizedMismatch_1 14 rfl rfl)
theorem dJ8_vectorizedMismatch_41 : decode cJ8_vectorizedMismatch 41 = .ok (.lstore 12, 2) := dk_55 12 (dk_at dksJ8_vectorizedMismatch_1 17 rfl rfl)
theorem dJ8_vectorizedMismatch_43 : decode cJ8_vectorizedMismatch 43 = .ok (.getstatic 26, 3) := dk_178 0 26 (dk_at dksJ8_vectorizedMismatch_1 19 rfl rfl)
theorem dJ8_vectorizedMismatch_46 : decode cJ8_vectorizedMismatch 46 = .ok (.aload_n 3, 1) := dk_45 (dk_at dksJ8_vectorizedMismatch_1 22 rfl rfl)
theorem dJ8_vectorizedMismatch_47 : decode cJ8_vectorizedMismatch 47 = .ok (.lload 4, 2) := dk_22 4 (dk_at dksJ8_vectorizedMismatch_2 0 rfl rfl)
theorem dJ8_vectorizedMismatch_49 : decode cJ8_vectorizedMismatch 49 = .ok (.lload 10, 2) := dk_22 10 (dk_at dksJ8_vectorizedMismatch_2 2 rfl rfl)
theorem dJ8_vectorizedMismatch_51 : decode cJ8_vectorizedMismatch 51 = .ok (.ladd, 1) := dk_97 (dk_at dksJ8_vectorizedMismatch_2 4 rfl rfl)
theorem dJ8_vectorizedMismatch_52 : decode cJ8_vectorizedMismatch 52 = .ok (.invokevirtual 30, 3) := dk_182 0 30 (dk_at dksJ8_vectorizedMismatch_2 5 rfl rfl)
theorem dJ8_vectorizedMismatch_55 : decode cJ8_vectorizedMismatch 55 = .ok (.lstore 14, 2) := dk_55 14 (dk_at dksJ8_vectorizedMismatch_2 8 rfl rfl)
theorem dJ8_vectorizedMismatch_57 : decode cJ8_vectorizedMismatch 57 = .ok (.lload 12, 2) := dk_22 12 (dk_at dksJ8_vectorizedMismatch_2 10 rfl rfl)
theorem dJ8_vectorizedMismatch_59 : decode cJ8_vectorizedMismatch 59 = .ok (.lload 14, 2) := dk_22 14 (dk_at dksJ8_vectorizedMismatch_2 12 rfl rfl)
theorem dJ8_vectorizedMismatch_61 : decode cJ8_vectorizedMismatch 61 = .ok (.lcmp, 1) := dk_148 (dk_at dksJ8_vectorizedMismatch_2 14 rfl rfl)
theorem dJ8_vectorizedMismatch_62 : decode cJ8_vectorizedMismatch 62 = .ok (.ifCond .eq 54, 3) := dk_153 0 54 (dk_at dksJ8_vectorizedMismatch_2 15 rfl rfl)
theorem dJ8_vectorizedMismatch_65 : decode cJ8_vectorizedMismatch 65 = .ok (.lload 12, 2) := dk_22 12 (dk_at dksJ8_vectorizedMismatch_2 18 rfl rfl)
theorem dJ8_vectorizedMismatch_67 : decode cJ8_vectorizedMismatch 67 = .ok (.lload 14, 2) := dk_22 14 (dk_at dksJ8_vectorizedMismatch_2 20 rfl rfl)
theorem dJ8_vectorizedMismatch_69 : decode cJ8_vectorizedMismatch 69 = .ok (.lxor, 1) := dk_131 (dk_at dksJ8_vectorizedMismatch_2 22 rfl rfl)
theorem dJ8_vectorizedMismatch_70 : decode cJ8_vectorizedMismatch 70 = .ok (.lstore 16, 2) := dk_55 16 (dk_at dksJ8_vectorizedMismatch_3 0 rfl rfl)
theorem dJ8_vectorizedMismatch_72 : decode cJ8_vectorizedMismatch 72 = .ok (.getstatic 36, 3) := dk_178 0 36 (dk_at dksJ8_vectorizedMismatch_3 2 rfl rfl)
theorem dJ8_vectorizedMismatch_75 : decode cJ8_vectorizedMismatch 75 = .ok (.ifCond .eq 18, 3) := dk_153 0 18 (dk_at dksJ8_vectorizedMismatch_3 5 rfl rfl)
theorem dJ8_vectorizedMismatch_78 : decode cJ8_vectorizedMismatch 78 = .ok (.lload 16, 2) := dk_22 16 (dk_at dksJ8_vectorizedMismatch_3 8 rfl rfl)
theorem dJ8_vectorizedMismatch_80 : decode cJ8_vectorizedMismatch 80 = .ok (.invokestatic 40, 3) := dk_184 0 40 (dk_at dksJ8_vectorizedMismatch_3 10 rfl rfl)
theorem dJ8_vectorizedMismatch_83 : decode cJ8_vectorizedMismatch 83 = .ok (.getstatic 46, 3) := dk_178 0 46 (dk_at dksJ8_vectorizedMismatch_3 13 rfl rfl)
theorem dJ8_vectorizedMismatch_86 : decode cJ8_vectorizedMismatch 86 = .ok (.iload 7, 2) := dk_21 7 (dk_at dksJ8_vectorizedMismatch_3 16 rfl rfl)
theorem dJ8_vectorizedMismatch_88 : decode cJ8_vectorizedMismatch 88 = .ok (.iadd, 1) := dk_96 (dk_at dksJ8_vectorizedMismatch_3 18 rfl rfl)
theorem dJ8_vectorizedMismatch_89 : decode cJ8_vectorizedMismatch 89 = .ok (.ishr, 1) := dk_122 (dk_at dksJ8_vectorizedMismatch_3 19 rfl rfl)
theorem dJ8_vectorizedMismatch_90 : decode cJ8_vectorizedMismatch 90 = .ok (.goto 15, 3) := dk_167 0 15 (dk_at dksJ8_vectorizedMismatch_3 20 rfl rfl)
theorem dJ8_vectorizedMismatch_93 : decode cJ8_vectorizedMismatch 93 = .ok (.lload 16, 2) := dk_22 16 (dk_at dksJ8_vectorizedMismatch_4 0 rfl rfl)
theorem dJ8_vectorizedMismatch_95 : decode cJ8_vectorizedMismatch 95 = .ok (.invokestatic 49, 3) := dk_184 0 49 (dk_at dksJ8_vectorizedMismatch_4 2 rfl rfl)
theorem dJ8_vectorizedMismatch_98 : decode cJ8_vectorizedMismatch 98 = .ok (.getstatic 46, 3) := dk_178 0 46 (dk_at dksJ8_vectorizedMismatch_4 5 rfl rfl)
theorem dJ8_vectorizedMismatch_101 : decode cJ8_vectorizedMismatch 101 = .ok (.iload 7, 2) := dk_21 7 (dk_at dksJ8_vectorizedMismatch_4 8 rfl rfl)
theorem dJ8_vectorizedMismatch_103 : decode cJ8_vectorizedMismatch 103 = .ok (.iadd, 1) := dk_96 (dk_at dksJ8_vectorizedMismatch_4 10 rfl rfl)
theorem dJ8_vectorizedMismatch_104 : decode cJ8_vectorizedMismatch 104 = .ok (.ishr, 1) := dk_122 (dk_at dksJ8_vectorizedMismatch_4 11 rfl rfl)
theorem dJ8_vectorizedMismatch_105 : decode cJ8_vectorizedMismatch 105 = .ok (.istore 18, 2) := dk_54 18 (dk_at dksJ8_vectorizedMismatch_4 12 rfl rfl)
theorem dJ8_vectorizedMismatch_107 : decode cJ8_vectorizedMismatch 107 = .ok (.iload 9, 2) := dk_21 9 (dk_at dksJ8_vectorizedMismatch_4 14 rfl rfl)
theorem dJ8_vectorizedMismatch_109 : decode cJ8_vectorizedMismatch 109 = .ok (.iload 8, 2) := dk_21 8 (dk_at dksJ8_vectorizedMismatch_4 16 rfl rfl)
theorem dJ8_vectorizedMismatch_111 : decode cJ8_vectorizedMismatch 111 = .ok (.ishl, 1) := dk_120 (dk_at dksJ8_vectorizedMismatch_4 18 rfl rfl)
theorem dJ8_vectorizedMismatch_112 : decode cJ8_vectorizedMismatch 112 = .ok (.iload 18, 2) := dk_21 18 (dk_at dksJ8_vectorizedMismatch_4 19 rfl rfl)
theorem dJ8_vectorizedMismatch_114 : decode cJ8_vectorizedMismatch 114 = .ok (.iadd, 1) := dk_96 (dk_at dksJ8_vectorizedMismatch_4 21 rfl rfl)
theorem dJ8_vectorizedMismatch_115 : decode cJ8_vectorizedMismatch 115 = .ok (.ireturn, 1) := dk_172 (dk_at dksJ8_vectorizedMismatch_4 22 rfl rfl)
theorem dJ8_vectorizedMismatch_116 : decode cJ8_vectorizedMismatch 116 = .ok (.iinc 9 1, 3) := dk_132 9 1 (dk_at dksJ8_vectorizedMismatch_5 0 rfl rfl)
theorem dJ8_vectorizedMismatch_119 : decode cJ8_vectorizedMismatch 119 = .ok (.goto (-108), 3) := dk_167 255 148 (dk_at dksJ8_vectorizedMismatch_5 3 rfl rfl)
theorem dJ8_vectorizedMismatch_122 : decode cJ8_vectorizedMismatch 122 = .ok (.iload 6, 2) := dk_21 6 (dk_at dksJ8_vectorizedMismatch_5 6 rfl rfl)
theorem dJ8_vectorizedMismatch_124 : decode cJ8_vectorizedMismatch 124 = .ok (.iload 9, 2) := dk_21 9 (dk_at dksJ8_vectorizedMismatch_5 8 rfl rfl)
theorem dJ8_vectorizedMismatch_126 : decode cJ8_vectorizedMismatch 126 = .ok (.iload 8, 2) := dk_21 8 (dk_at dksJ8_vectorizedMismatch_5 10 rfl rfl)
theorem dJ8_vectorizedMismatch_128 : decode cJ8_vectorizedMismatch 128 = .ok (.ishl, 1) := dk_120 (dk_at dksJ8_vectorizedMismatch_5 12 rfl rfl)
theorem dJ8_vectorizedMismatch_129 : decode cJ8_vectorizedMismatch 129 = .ok (.isub, 1) := dk_100 (dk_at dksJ8_vectorizedMismatch_5 13 rfl rfl)
theorem dJ8_vectorizedMismatch_130 : decode cJ8_vectorizedMismatch 130 = .ok (.istore 10, 2) := dk_54 10 (dk_at dksJ8_vectorizedMismatch_5 14 rfl rfl)
theorem dJ8_vectorizedMismatch_132 : decode cJ8_vectorizedMismatch 132 = .ok (.iload 7, 2) := dk_21 7 (dk_at dksJ8_vectorizedMismatch_5 16 rfl rfl)
theorem dJ8_vectorizedMismatch_134 : decode cJ8_vectorizedMismatch 134 = .ok (.getstatic 51, 3) := dk_178 0 51 (dk_at dksJ8_vectorizedMismatch_5 18 rfl rfl)
theorem dJ8_vectorizedMismatch_137 : decode cJ8_vectorizedMismatch 137 = .ok (.if_icmp .ge 126, 3) := dk_162 0 126 (dk_at dksJ8_vectorizedMismatch_5 21 rfl rfl)
theorem dJ8_vectorizedMismatch_140 : decode cJ8_vectorizedMismatch 140 = .ok (.iconst 1, 1) := dk_4 (dk_at dksJ8_vectorizedMismatch_6 0 rfl rfl)
theorem dJ8_vectorizedMismatch_141 : decode cJ8_vectorizedMismatch 141 = .ok (.getstatic 51, 3) := dk_178 0 51 (dk_at dksJ8_vectorizedMismatch_6 1 rfl rfl)
theorem dJ8_vectorizedMismatch_144 : decode cJ8_vectorizedMismatch 144 = .ok (.iload 7, 2) := dk_21 7 (dk_at dksJ8_vectorizedMismatch_6 4 rfl rfl)
theorem dJ8_vectorizedMismatch_146 : decode cJ8_vectorizedMismatch 146 = .ok (.isub, 1) := dk_100 (dk_at dksJ8_vectorizedMismatch_6 6 rfl rfl)
theorem dJ8_vectorizedMismatch_147 : decode cJ8_vectorizedMismatch 147 = .ok (.ishl, 1) := dk_120 (dk_at dksJ8_vectorizedMismatch_6 7 rfl rfl)
theorem dJ8_vectorizedMismatch_148 : decode cJ8_vectorizedMismatch 148 = .ok (.istore 11, 2) := dk_54 11 (dk_at dksJ8_vectorizedMismatch_6 8 rfl rfl)
theorem dJ8_vectorizedMismatch_150 : decode cJ8_vectorizedMismatch 150 = .ok (.iload 10, 2) := dk_21 10 (dk_at dksJ8_vectorizedMismatch_6 10 rfl rfl)
theorem dJ8_vectorizedMismatch_152 : decode cJ8_vectorizedMismatch 152 = .ok (.iload 11, 2) := dk_21 11 (dk_at dksJ8_vectorizedMismatch_6 12 rfl rfl)
theorem dJ8_vectorizedMismatch_154 : decode cJ8_vectorizedMismatch 154 = .ok (.if_icmp .lt 104, 3) := dk_161 0 104 (dk_at dksJ8_vectorizedMismatch_6 14 rfl rfl)
theorem dJ8_vectorizedMismatch_157 : decode cJ8_vectorizedMismatch 157 = .ok (.iload 9, 2) := dk_21 9 (dk_at dksJ8_vectorizedMismatch_6 17 rfl rfl)
theorem dJ8_vectorizedMismatch_159 : decode cJ8_vectorizedMismatch 159 = .ok (.i2l, 1) := dk_133 (dk_at dksJ8_vectorizedMismatch_6 19 rfl rfl)
theorem dJ8_vectorizedMismatch_160 : decode cJ8_vectorizedMismatch 160 = .ok (.getstatic 20, 3) := dk_178 0 20 (dk_at dksJ8_vectorizedMismatch_6 20 rfl rfl)
theorem dJ8_vectorizedMismatch_163 : decode cJ8_vectorizedMismatch 163 = .ok (.lshl, 1) := dk_121 (dk_at dksJ8_vectorizedMismatch_6 23 rfl rfl)
theorem dJ8_vectorizedMismatch_164 : decode cJ8_vectorizedMismatch 164 = .ok (.lstore 12, 2) := dk_55 12 (dk_at dksJ8_vectorizedMismatch_7 0 rfl rfl)
theorem dJ8_vectorizedMismatch_166 : decode cJ8_vectorizedMismatch 166 = .ok (.getstatic 26, 3) := dk_178 0 26 (dk_at dksJ8_vectorizedMismatch_7 2 rfl rfl)
theorem dJ8_vectorizedMismatch_169 : decode cJ8_vectorizedMismatch 169 = .ok (.aload_n 0, 1) := dk_42 (dk_at dksJ8_vectorizedMismatch_7 5 rfl rfl)
theorem dJ8_vectorizedMismatch_170 : decode cJ8_vectorizedMismatch 170 = .ok (.lload_n 1, 1) := dk_31 (dk_at dksJ8_vectorizedMismatch_7 6 rfl rfl)
theorem dJ8_vectorizedMismatch_171 : decode cJ8_vectorizedMismatch 171 = .ok (.lload 12, 2) := dk_22 12 (dk_at dksJ8_vectorizedMismatch_7 7 rfl rfl)
theorem dJ8_vectorizedMismatch_173 : decode cJ8_vectorizedMismatch 173 = .ok (.ladd, 1) := dk_97 (dk_at dksJ8_vectorizedMismatch_7 9 rfl rfl)
theorem dJ8_vectorizedMismatch_174 : decode cJ8_vectorizedMismatch 174 = .ok (.invokevirtual 54, 3) := dk_182 0 54 (dk_at dksJ8_vectorizedMismatch_7 10 rfl rfl)
theorem dJ8_vectorizedMismatch_177 : decode cJ8_vectorizedMismatch 177 = .ok (.istore 14, 2) := dk_54 14 (dk_at dksJ8_vectorizedMismatch_7 13 rfl rfl)
theorem dJ8_vectorizedMismatch_179 : decode cJ8_vectorizedMismatch 179 = .ok (.getstatic 26, 3) := dk_178 0 26 (dk_at dksJ8_vectorizedMismatch_7 15 rfl rfl)
theorem dJ8_vectorizedMismatch_182 : decode cJ8_vectorizedMismatch 182 = .ok (.aload_n 3, 1) := dk_45 (dk_at dksJ8_vectorizedMismatch_7 18 rfl rfl)
theorem dJ8_vectorizedMismatch_183 : decode cJ8_vectorizedMismatch 183 = .ok (.lload 4, 2) := dk_22 4 (dk_at dksJ8_vectorizedMismatch_7 19 rfl rfl)
theorem dJ8_vectorizedMismatch_185 : decode cJ8_vectorizedMismatch 185 = .ok (.lload 12, 2) := dk_22 12 (dk_at dksJ8_vectorizedMismatch_7 21 rfl rfl)
theorem dJ8_vectorizedMismatch_187 : decode cJ8_vectorizedMismatch 187 = .ok (.ladd, 1) := dk_97 (dk_at dksJ8_vectorizedMismatch_7 23 rfl rfl)
theorem dJ8_vectorizedMismatch_188 : decode cJ8_vectorizedMismatch 188 = .ok (.invokevirtual 54, 3) := dk_182 0 54 (dk_at dksJ8_vectorizedMismatch_8 0 rfl rfl)
theorem dJ8_vectorizedMismatch_191 : decode cJ8_vectorizedMismatch 191 = .ok (.istore 15, 2) := dk_54 15 (dk_at dksJ8_vectorizedMismatch_8 3 rfl rfl)
theorem dJ8_vectorizedMismatch_193 : decode cJ8_vectorizedMismatch 193 = .ok (.iload 14, 2) := dk_21 14 (dk_at dksJ8_vectorizedMismatch_8 5 rfl rfl)
theorem dJ8_vectorizedMismatch_195 : decode cJ8_vectorizedMismatch 195 = .ok (.iload 15, 2) := dk_21 15 (dk_at dksJ8_vectorizedMismatch_8 7 rfl rfl)
theorem dJ8_vectorizedMismatch_197 : decode cJ8_vectorizedMismatch 197 = .ok (.if_icmp .eq 54, 3) := dk_159 0 54 (dk_at dksJ8_vectorizedMismatch_8 9 rfl rfl)
theorem dJ8_vectorizedMismatch_200 : decode cJ8_vectorizedMismatch 200 = .ok (.iload 14, 2) := dk_21 14 (dk_at dksJ8_vectorizedMismatch_8 12 rfl rfl)
theorem dJ8_vectorizedMismatch_202 : decode cJ8_vectorizedMismatch 202 = .ok (.iload 15, 2) := dk_21 15 (dk_at dksJ8_vectorizedMismatch_8 14 rfl rfl)
theorem dJ8_vectorizedMismatch_204 : decode cJ8_vectorizedMismatch 204 = .ok (.ixor, 1) := dk_130 (dk_at dksJ8_vectorizedMismatch_8 16 rfl rfl)
theorem dJ8_vectorizedMismatch_205 : decode cJ8_vectorizedMismatch 205 = .ok (.istore 16, 2) := dk_54 16 (dk_at dksJ8_vectorizedMismatch_8 17 rfl rfl)
theorem dJ8_vectorizedMismatch_207 : decode cJ8_vectorizedMismatch 207 = .ok (.getstatic 36, 3) := dk_178 0 36 (dk_at dksJ8_vectorizedMismatch_8 19 rfl rfl)
theorem dJ8_vectorizedMismatch_210 : decode cJ8_vectorizedMismatch 210 = .ok (.ifCond .eq 18, 3) := dk_153 0 18 (dk_at dksJ8_vectorizedMismatch_9 0 rfl rfl)
theorem dJ8_vectorizedMismatch_213 : decode cJ8_vectorizedMismatch 213 = .ok (.iload 16, 2) := dk_21 16 (dk_at dksJ8_vectorizedMismatch_9 3 rfl rfl)
theorem dJ8_vectorizedMismatch_215 : decode cJ8_vectorizedMismatch 215 = .ok (.invokestatic 58, 3) := dk_184 0 58 (dk_at dksJ8_vectorizedMismatch_9 5 rfl rfl)
theorem dJ8_vectorizedMismatch_218 : decode cJ8_vectorizedMismatch 218 = .ok (.getstatic 46, 3) := dk_178 0 46 (dk_at dksJ8_vectorizedMismatch_9 8 rfl rfl)
theorem dJ8_vectorizedMismatch_221 : decode cJ8_vectorizedMismatch 221 = .ok (.iload 7, 2) := dk_21 7 (dk_at dksJ8_vectorizedMismatch_9 11 rfl rfl)
theorem dJ8_vectorizedMismatch_223 : decode cJ8_vectorizedMismatch 223 = .ok (.iadd, 1) := dk_96 (dk_at dksJ8_vectorizedMismatch_9 13 rfl rfl)
theorem dJ8_vectorizedMismatch_224 : decode cJ8_vectorizedMismatch 224 = .ok (.ishr, 1) := dk_122 (dk_at dksJ8_vectorizedMismatch_9 14 rfl rfl)
theorem dJ8_vectorizedMismatch_225 : decode cJ8_vectorizedMismatch 225 = .ok (.goto 15, 3) := dk_167 0 15 (dk_at dksJ8_vectorizedMismatch_9 15 rfl rfl)
theorem dJ8_vectorizedMismatch_228 : decode cJ8_vectorizedMismatch 228 = .ok (.iload 16, 2) := dk_21 16 (dk_at dksJ8_vectorizedMismatch_9 18 rfl rfl)
theorem dJ8_vectorizedMismatch_230 : decode cJ8_vectorizedMismatch 230 = .ok (.invokestatic 11, 3) := dk_184 0 11 (dk_at dksJ8_vectorizedMismatch_9 20 rfl rfl)
theorem dJ8_vectorizedMismatch_233 : decode cJ8_vectorizedMismatch 233 = .ok (.getstatic 46, 3) := dk_178 0 46 (dk_at dksJ8_vectorizedMismatch_10 0 rfl rfl)
theorem dJ8_vectorizedMismatch_236 : decode cJ8_vectorizedMismatch 236 = .ok (.iload 7, 2) := dk_21 7 (dk_at dksJ8_vectorizedMismatch_10 3 rfl rfl)
theorem dJ8_vectorizedMismatch_238 : decode cJ8_vectorizedMismatch 238 = .ok (.iadd, 1) := dk_96 (dk_at dksJ8_vectorizedMismatch_10 5 rfl rfl)
theorem dJ8_vectorizedMismatch_239 : decode cJ8_vectorizedMismatch 239 = .ok (.ishr, 1) := dk_122 (dk_at dksJ8_vectorizedMismatch_10 6 rfl rfl)
theorem dJ8_vectorizedMismatch_240 : decode cJ8_vectorizedMismatch 240 = .ok (.istore 17, 2) := dk_54 17 (dk_at dksJ8_vectorizedMismatch_10 7 rfl rfl)
theorem dJ8_vectorizedMismatch_242 : decode cJ8_vectorizedMismatch 242 = .ok (.iload 9, 2) := dk_21 9 (dk_at dksJ8_vectorizedMismatch_10 9 rfl rfl)
theorem dJ8_vectorizedMismatch_244 : decode cJ8_vectorizedMismatch 244 = .ok (.iload 8, 2) := dk_21 8 (dk_at dksJ8_vectorizedMismatch_10 11 rfl rfl)
theorem dJ8_vectorizedMismatch_246 : decode cJ8_vectorizedMismatch 246 = .ok (.ishl, 1) := dk_120 (dk_at dksJ8_vectorizedMismatch_10 13 rfl rfl)
theorem dJ8_vectorizedMismatch_247 : decode cJ8_vectorizedMismatch 247 = .ok (.iload 17, 2) := dk_21 17 (dk_at dksJ8_vectorizedMismatch_10 14 rfl rfl)
theorem dJ8_vectorizedMismatch_249 : decode cJ8_vectorizedMismatch 249 = .ok (.iadd, 1) := dk_96 (dk_at dksJ8_vectorizedMismatch_10 16 rfl rfl)
theorem dJ8_vectorizedMismatch_250 : decode cJ8_vectorizedMismatch 250 = .ok (.ireturn, 1) := dk_172 (dk_at dksJ8_vectorizedMismatch_10 17 rfl rfl)
theorem dJ8_vectorizedMismatch_251 : decode cJ8_vectorizedMismatch 251 = .ok (.iload 10, 2) := dk_21 10 (dk_at dksJ8_vectorizedMismatch_10 18 rfl rfl)
theorem dJ8_vectorizedMismatch_253 : decode cJ8_vectorizedMismatch 253 = .ok (.iload 11, 2) := dk_21 11 (dk_at dksJ8_vectorizedMismatch_10 20 rfl rfl)
theorem dJ8_vectorizedMismatch_255 : decode cJ8_vectorizedMismatch 255 = .ok (.isub, 1) := dk_100 (dk_at dksJ8_vectorizedMismatch_10 22 rfl rfl)
theorem dJ8_vectorizedMismatch_256 : decode cJ8_vectorizedMismatch 256 = .ok (.istore 10, 2) := dk_54 10 (dk_at dksJ8_vectorizedMismatch_11 0 rfl rfl)
theorem dJ8_vectorizedMismatch_258 : decode cJ8_vectorizedMismatch 258 = .ok (.iload 10, 2) := dk_21 10 (dk_at dksJ8_vectorizedMismatch_11 2 rfl rfl)
theorem dJ8_vectorizedMismatch_260 : decode cJ8_vectorizedMismatch 260 = .ok (.iconst (-1), 1) := dk_2 (dk_at dksJ8_vectorizedMismatch_11 4 rfl rfl)
theorem dJ8_vectorizedMismatch_261 : decode cJ8_vectorizedMismatch 261 = .ok (.ixor, 1) := dk_130 (dk_at dksJ8_vectorizedMismatch_11 5 rfl rfl)
theorem dJ8_vectorizedMismatch_262 : decode cJ8_vectorizedMismatch 262 = .ok (.ireturn, 1) := dk_172 (dk_at dksJ8_vectorizedMismatch_11 6 rfl rfl)
theorem dJ8_vectorizedMismatch_263 : decode cJ8_vectorizedMismatch 263 = .ok (.iload 10, 2) := dk_21 10 (dk_at dksJ8_vectorizedMismatch_11 7 rfl rfl)
theorem dJ8_vectorizedMismatch_265 : decode cJ8_vectorizedMismatch 265 = .ok (.iconst (-1), 1) := dk_2 (dk_at dksJ8_vectorizedMismatch_11 9 rfl rfl)
theorem dJ8_vectorizedMismatch_266 : decode cJ8_vectorizedMismatch 266 = .ok (.ixor, 1) := dk_130 (dk_at dksJ8_vectorizedMismatch_11 10 rfl rfl)
theorem dJ8_vectorizedMismatch_267 : decode cJ8_vectorizedMismatch 267 = .ok (.ireturn, 1) := dk_172 (dk_at dksJ8_vectorizedMismatch_11 11 rfl rfl)
theorem q106 : (Jvm.Cond.initialized "jdk/internal/util/ArraysSupport") ∈ lw_all := lw_g (lw_at lw_m1 14 rfl) rfl
theorem q405 : (Jvm.Cond.static ({ cls := "jdk/internal/util/ArraysSupport", name := "newLength", desc := "(III)I" } : Jvm.MethodName)) ∈ lw_all := lw_g (lw_at lw_m2 73 rfl) rfl
theorem q406 : (Jvm.Cond.code ({ cls := "jdk/internal/util/ArraysSupport", name := "newLength", desc := "(III)I" } : Jvm.MethodName) prog_69_method_27_code (4 : Nat) (Option.some Jvm.ClassFile.FieldType.int)) ∈ lw_all := lw_g (lw_at lw_m2 74 rfl) rfl
theorem q407 : (Jvm.Cond.methodLink "jdk/internal/util/ArraysSupport" (194 : Nat) ({ cls := "java/lang/Math", name := "max", desc := "(II)I" } : Jvm.MethodName)) ∈ lw_all := lw_g (lw_at lw_m2 75 rfl) rfl
theorem q410 : (Jvm.Cond.constant "jdk/internal/util/ArraysSupport" (200 : Nat) (2147483639 : Int32)) ∈ lw_all := lw_g (lw_at lw_m2 78 rfl) rfl
theorem q411 : (Jvm.Cond.methodLink "jdk/internal/util/ArraysSupport" (201 : Nat) ({ cls := "jdk/internal/util/ArraysSupport", name := "hugeLength", desc := "(II)I" } : Jvm.MethodName)) ∈ lw_all := lw_g (lw_at lw_m2 79 rfl) rfl
theorem q412 : (Jvm.Cond.static ({ cls := "jdk/internal/util/ArraysSupport", name := "hugeLength", desc := "(II)I" } : Jvm.MethodName)) ∈ lw_all := lw_g (lw_at lw_m2 80 rfl) rfl
theorem q413 : (Jvm.Cond.code ({ cls := "jdk/internal/util/ArraysSupport", name := "hugeLength", desc := "(II)I" } : Jvm.MethodName) prog_69_method_28_code (3 : Nat) (Option.some Jvm.ClassFile.FieldType.int)) ∈ lw_all := lw_g (lw_at lw_m2 81 rfl) rfl
theorem q520 : (Jvm.Cond.static ({ cls := "jdk/internal/util/ArraysSupport", name := "vectorizedHashCode", desc := "(Ljava/lang/Object;IIII)I" } : Jvm.MethodName)) ∈ lw_all := lw_g (lw_at lw_m2 188 rfl) rfl
theorem q521 : (Jvm.Cond.code ({ cls := "jdk/internal/util/ArraysSupport", name := "vectorizedHashCode", desc := "(Ljava/lang/Object;IIII)I" } : Jvm.MethodName) prog_69_method_4_code (5 : Nat) (Option.some Jvm.ClassFile.FieldType.int)) ∈ lw_all := lw_g (lw_at lw_m2 189 rfl) rfl
theorem q522 : (Jvm.Cond.classLink "jdk/internal/util/ArraysSupport" (60 : Nat) "[B") ∈ lw_all := lw_g (lw_at lw_m2 190 rfl) rfl
theorem q523 : (Jvm.Cond.methodLink "jdk/internal/util/ArraysSupport" (62 : Nat) ({ cls := "jdk/internal/util/ArraysSupport", name := "signedHashCode", desc := "(I[BII)I" } : Jvm.MethodName)) ∈ lw_all := lw_g (lw_at lw_m2 191 rfl) rfl
theorem q524 : (Jvm.Cond.static ({ cls := "jdk/internal/util/ArraysSupport", name := "signedHashCode", desc := "(I[BII)I" } : Jvm.MethodName)) ∈ lw_all := lw_g (lw_at lw_m2 192 rfl) rfl
theorem q525 : (Jvm.Cond.code ({ cls := "jdk/internal/util/ArraysSupport", name := "signedHashCode", desc := "(I[BII)I" } : Jvm.MethodName) prog_69_method_5_code (6 : Nat) (Option.some Jvm.ClassFile.FieldType.int)) ∈ lw_all := lw_g (lw_at lw_m2 193 rfl) rfl
theorem q526 : (Jvm.Cond.methodLink "jdk/internal/util/ArraysSupport" (66 : Nat) ({ cls := "jdk/internal/util/ArraysSupport", name := "utf16hashCode", desc := "(I[BII)I" } : Jvm.MethodName)) ∈ lw_all := lw_g (lw_at lw_m2 194 rfl) rfl
theorem q527 : (Jvm.Cond.static ({ cls := "jdk/internal/util/ArraysSupport", name := "utf16hashCode", desc := "(I[BII)I" } : Jvm.MethodName)) ∈ lw_all := lw_g (lw_at lw_m2 195 rfl) rfl
theorem q528 : (Jvm.Cond.code ({ cls := "jdk/internal/util/ArraysSupport", name := "utf16hashCode", desc := "(I[BII)I" } : Jvm.MethodName) prog_69_method_10_code (6 : Nat) (Option.some Jvm.ClassFile.FieldType.int)) ∈ lw_all := lw_g (lw_at lw_m2 196 rfl) rfl
theorem q529 : (Jvm.Cond.fieldLink "jdk/internal/util/ArraysSupport" (106 : Nat) "jdk/internal/util/ArraysSupport" "JLA" "Ljdk/internal/access/JavaLangAccess;") ∈ lw_all := lw_g (lw_at lw_m2 197 rfl) rfl
theorem q530 : (Jvm.Cond.laysStatic "jdk/internal/util/ArraysSupport" "JLA" "Ljdk/internal/access/JavaLangAccess;") ∈ lw_tbl := lw_at lw_m2 198 rfl
theorem q531 : (Jvm.Cond.interfaceEntry "jdk/internal/util/ArraysSupport" (110 : Nat)) ∈ lw_tbl := lw_at lw_m2 199 rfl
theorem q532 : (Jvm.Cond.methodLink "jdk/internal/util/ArraysSupport" (110 : Nat) ({ cls := "jdk/internal/access/JavaLangAccess", name := "getUTF16Char", desc := "([BI)C" } : Jvm.MethodName)) ∈ lw_all := lw_g (lw_at lw_m2 200 rfl) rfl
theorem q553 : (Jvm.Cond.classLink "jdk/internal/util/ArraysSupport" (69 : Nat) "[C") ∈ lw_all := lw_g (lw_at lw_m2 221 rfl) rfl
theorem q554 : (Jvm.Cond.methodLink "jdk/internal/util/ArraysSupport" (71 : Nat) ({ cls := "jdk/internal/util/ArraysSupport", name := "hashCode", desc := "(I[CII)I" } : Jvm.MethodName)) ∈ lw_all := lw_g (lw_at lw_m2 222 rfl) rfl
theorem q555 : (Jvm.Cond.static ({ cls := "jdk/internal/util/ArraysSupport", name := "hashCode", desc := "(I[CII)I" } : Jvm.MethodName)) ∈ lw_all := lw_g (lw_at lw_m2 223 rfl) rfl
theorem q556 : (Jvm.Cond.code ({ cls := "jdk/internal/util/ArraysSupport", name := "hashCode", desc := "(I[CII)I" } : Jvm.MethodName) prog_69_method_7_code (6 : Nat) (Option.some Jvm.ClassFile.FieldType.int)) ∈ lw_all := lw_g (lw_at lw_m2 224 rfl) rfl
theorem q557 : (Jvm.Cond.methodLink "jdk/internal/util/ArraysSupport" (75 : Nat) ({ cls := "jdk/internal/util/ArraysSupport", name := "hashCode", desc := "(I[BII)I" } : Jvm.MethodName)) ∈ lw_all := lw_g (lw_at lw_m2 225 rfl) rfl
theorem q558 : (Jvm.Cond.static ({ cls := "jdk/internal/util/ArraysSupport", name := "hashCode", desc := "(I[BII)I" } : Jvm.MethodName)) ∈ lw_all := lw_g (lw_at lw_m2 226 rfl) rfl
theorem q559 : (Jvm.Cond.code ({ cls := "jdk/internal/util/ArraysSupport", name := "hashCode", desc := "(I[BII)I" } : Jvm.MethodName) prog_69_method_6_code (6 : Nat) (Option.some Jvm.ClassFile.FieldType.int)) ∈ lw_all := lw_g (lw_at lw_m2 227 rfl) rfl
theorem q560 : (Jvm.Cond.classLink "jdk/internal/util/ArraysSupport" (77 : Nat) "[S") ∈ lw_all := lw_g (lw_at lw_m2 228 rfl) rfl
theorem q561 : (Jvm.Cond.methodLink "jdk/internal/util/ArraysSupport" (79 : Nat) ({ cls := "jdk/internal/util/ArraysSupport", name := "hashCode", desc := "(I[SII)I" } : Jvm.MethodName)) ∈ lw_all := lw_g (lw_at lw_m2 229 rfl) rfl
theorem q562 : (Jvm.Cond.static ({ cls := "jdk/internal/util/ArraysSupport", name := "hashCode", desc := "(I[SII)I" } : Jvm.MethodName)) ∈ lw_all := lw_g (lw_at lw_m2 230 rfl) rfl
theorem q563 : (Jvm.Cond.code ({ cls := "jdk/internal/util/ArraysSupport", name := "hashCode", desc := "(I[SII)I" } : Jvm.MethodName) prog_69_method_8_code (6 : Nat) (Option.some Jvm.ClassFile.FieldType.int)) ∈ lw_all := lw_g (lw_at lw_m2 231 rfl) rfl
theorem q564 : (Jvm.Cond.classLink "jdk/internal/util/ArraysSupport" (82 : Nat) "[I") ∈ lw_all := lw_g (lw_at lw_m2 232 rfl) rfl
theorem q565 : (Jvm.Cond.methodLink "jdk/internal/util/ArraysSupport" (84 : Nat) ({ cls := "jdk/internal/util/ArraysSupport", name := "hashCode", desc := "(I[III)I" } : Jvm.MethodName)) ∈ lw_all := lw_g (lw_at lw_m2 233 rfl) rfl
theorem q566 : (Jvm.Cond.static ({ cls := "jdk/internal/util/ArraysSupport", name := "hashCode", desc := "(I[III)I" } : Jvm.MethodName)) ∈ lw_all := lw_g (lw_at lw_m2 234 rfl) rfl
theorem q567 : (Jvm.Cond.code ({ cls := "jdk/internal/util/ArraysSupport", name := "hashCode", desc := "(I[III)I" } : Jvm.MethodName) prog_69_method_9_code (6 : Nat) (Option.some Jvm.ClassFile.FieldType.int)) ∈ lw_all := lw_g (lw_at lw_m2 235 rfl) rfl
theorem q682 : (Jvm.Cond.static ({ cls := "jdk/internal/util/ArraysSupport", name := "mismatch", desc := "([B[BI)I" } : Jvm.MethodName)) ∈ lw_all := lw_g (lw_at lw_m3 110 rfl) rfl
theorem q683 : (Jvm.Cond.code ({ cls := "jdk/internal/util/ArraysSupport", name := "mismatch", desc := "([B[BI)I" } : Jvm.MethodName) prog_69_method_13_code (4 : Nat) (Option.some Jvm.ClassFile.FieldType.int)) ∈ lw_all := lw_g (lw_at lw_m3 111 rfl) rfl
theorem q684 : (Jvm.Cond.fieldLink "jdk/internal/util/ArraysSupport" (126 : Nat) "jdk/internal/misc/Unsafe" "ARRAY_BYTE_BASE_OFFSET" "I") ∈ lw_all := lw_g (lw_at lw_m3 112 rfl) rfl
theorem q686 : (Jvm.Cond.fieldLink "jdk/internal/util/ArraysSupport" (129 : Nat) "jdk/internal/util/ArraysSupport" "LOG2_ARRAY_BYTE_INDEX_SCALE" "I") ∈ lw_all := lw_g (lw_at lw_m3 114 rfl) rfl
theorem q687 : (Jvm.Cond.laysStatic "jdk/internal/util/ArraysSupport" "LOG2_ARRAY_BYTE_INDEX_SCALE" "I") ∈ lw_tbl := lw_at lw_m3 115 rfl
theorem q688 : (Jvm.Cond.methodLink "jdk/internal/util/ArraysSupport" (122 : Nat) ({ cls := "jdk/internal/util/ArraysSupport", name := "vectorizedMismatch", desc := "(Ljava/lang/Object;JLjava/lang/Object;JII)I" } : Jvm.MethodName)) ∈ lw_all := lw_g (lw_at lw_m3 116 rfl) rfl
theorem q689 : (Jvm.Cond.static ({ cls := "jdk/internal/util/ArraysSupport", name := "vectorizedMismatch", desc := "(Ljava/lang/Object;JLjava/lang/Object;JII)I" } : Jvm.MethodName)) ∈ lw_all := lw_g (lw_at lw_m3 117 rfl) rfl
theorem q690 : (Jvm.Cond.code ({ cls := "jdk/internal/util/ArraysSupport", name := "vectorizedMismatch", desc := "(Ljava/lang/Object;JLjava/lang/Object;JII)I" } : Jvm.MethodName) prog_69_method_3_code (19 : Nat) (Option.some Jvm.ClassFile.FieldType.int)) ∈ lw_all := lw_g (lw_at lw_m3 118 rfl) rfl
theorem q691 : (Jvm.Cond.fieldLink "jdk/internal/util/ArraysSupport" (20 : Nat) "jdk/internal/util/ArraysSupport" "LOG2_ARRAY_LONG_INDEX_SCALE" "I") ∈ lw_all := lw_g (lw_at lw_m3 119 rfl) rfl
theorem q692 : (Jvm.Cond.laysStatic "jdk/internal/util/ArraysSupport" "LOG2_ARRAY_LONG_INDEX_SCALE" "I") ∈ lw_tbl := lw_at lw_m3 120 rfl
theorem q693 : (Jvm.Cond.fieldLink "jdk/internal/util/ArraysSupport" (26 : Nat) "jdk/internal/util/ArraysSupport" "U" "Ljdk/internal/misc/Unsafe;") ∈ lw_all := lw_g (lw_at lw_m3 121 rfl) rfl
theorem q694 : (Jvm.Cond.laysStatic "jdk/internal/util/ArraysSupport" "U" "Ljdk/internal/misc/Unsafe;") ∈ lw_tbl := lw_at lw_m3 122 rfl
theorem q695 : (Jvm.Cond.methodLink "jdk/internal/util/ArraysSupport" (30 : Nat) ({ cls := "jdk/internal/misc/Unsafe", name := "getLongUnaligned", desc := "(Ljava/lang/Object;J)J" } : Jvm.MethodName)) ∈ lw_all := lw_g (lw_at lw_m3 123 rfl) rfl
theorem q747 : (Jvm.Cond.fieldLink "jdk/internal/util/ArraysSupport" (36 : Nat) "jdk/internal/util/ArraysSupport" "BIG_ENDIAN" "Z") ∈ lw_all := lw_g (lw_at lw_m3 175 rfl) rfl
theorem q748 : (Jvm.Cond.laysStatic "jdk/internal/util/ArraysSupport" "BIG_ENDIAN" "Z") ∈ lw_tbl := lw_at lw_m3 176 rfl
theorem q749 : (Jvm.Cond.methodLink "jdk/internal/util/ArraysSupport" (40 : Nat) ({ cls := "java/lang/Long", name := "numberOfLeadingZeros", desc := "(J)I" } : Jvm.MethodName)) ∈ lw_all := lw_g (lw_at lw_m3 177 rfl) rfl
theorem q756 : (Jvm.Cond.fieldLink "jdk/internal/util/ArraysSupport" (46 : Nat) "jdk/internal/util/ArraysSupport" "LOG2_BYTE_BIT_SIZE" "I") ∈ lw_all := lw_g (lw_at lw_m3 184 rfl) rfl
theorem q757 : (Jvm.Cond.laysStatic "jdk/internal/util/ArraysSupport" "LOG2_BYTE_BIT_SIZE" "I") ∈ lw_tbl := lw_at lw_m3 185 rfl
theorem q758 : (Jvm.Cond.methodLink "jdk/internal/util/ArraysSupport" (49 : Nat) ({ cls := "java/lang/Long", name := "numberOfTrailingZeros", desc := "(J)I" } : Jvm.MethodName)) ∈ lw_all := lw_g (lw_at lw_m3 186 rfl) rfl
theorem q764 : (Jvm.Cond.fieldLink "jdk/internal/util/ArraysSupport" (51 : Nat) "jdk/internal/util/ArraysSupport" "LOG2_ARRAY_INT_INDEX_SCALE" "I") ∈ lw_all := lw_g (lw_at lw_m3 192 rfl) rfl
theorem q765 : (Jvm.Cond.laysStatic "jdk/internal/util/ArraysSupport" "LOG2_ARRAY_INT_INDEX_SCALE" "I") ∈ lw_tbl := lw_at lw_m3 193 rfl
theorem q766 : (Jvm.Cond.methodLink "jdk/internal/util/ArraysSupport" (54 : Nat) ({ cls := "jdk/internal/misc/Unsafe", name := "getIntUnaligned", desc := "(Ljava/lang/Object;J)I" } : Jvm.MethodName)) ∈ lw_all := lw_g (lw_at lw_m3 194 rfl) rfl
theorem q783 : (Jvm.Cond.methodLink "jdk/internal/util/ArraysSupport" (58 : Nat) ({ cls := "java/lang/Integer", name := "numberOfLeadingZeros", desc := "(I)I" } : Jvm.MethodName)) ∈ lw_all := lw_g (lw_at lw_m3 211 rfl) rfl
theorem q784 : (Jvm.Cond.methodLink "jdk/internal/util/ArraysSupport" (11 : Nat) ({ cls := "java/lang/Integer", name := "numberOfTrailingZeros", desc := "(I)I" } : Jvm.MethodName)) ∈ lw_all := lw_g (lw_at lw_m3 212 rfl) rfl

/-! java/lang/Math -/
set_option maxRecDepth 100000
def RJ9 : String := "java/lang/Math"
abbrev cJ9_max : ByteArray := prog_37_method_65_code
def yJ9_max : MethodName := ⟨RJ9, "max", "(II)I"⟩
def dkwJ9_max_0 : List UInt8 := [26, 27, 161, 0, 7, 26, 167, 0, 4, 27, 172]
abbrev dktJ9_max_0 : List UInt8 := dkwJ9_max_0 ++ []
theorem dksJ9_max_0 : cJ9_max.data.toList.drop 0 = dktJ9_max_0 := by decide +kernel
theorem dJ9_max_0 : decode cJ9_max 0 = .ok (.iload_n 0, 1) := dk_26 (dk_at dksJ9_max_0 0 rfl rfl)
theorem dJ9_max_1 : decode cJ9_max 1 = .ok (.iload_n 1, 1) := dk_27 (dk_at dksJ9_max_0 1 rfl rfl)
theorem dJ9_max_2 : decode cJ9_max 2 = .ok (.if_icmp .lt 7, 3) := dk_161 0 7 (dk_at dksJ9_max_0 2 rfl rfl)
theorem dJ9_max_5 : decode cJ9_max 5 = .ok (.iload_n 0, 1) := dk_26 (dk_at dksJ9_max_0 5 rfl rfl)
theorem dJ9_max_6 : decode cJ9_max 6 = .ok (.goto 4, 3) := dk_167 0 4 (dk_at dksJ9_max_0 6 rfl rfl)
theorem dJ9_max_9 : decode cJ9_max 9 = .ok (.iload_n 1, 1) := dk_27 (dk_at dksJ9_max_0 9 rfl rfl)
theorem dJ9_max_10 : decode cJ9_max 10 = .ok (.ireturn, 1) := dk_172 (dk_at dksJ9_max_0 10 rfl rfl)
abbrev cJ9_min : ByteArray := prog_37_method_69_code
def yJ9_min : MethodName := ⟨RJ9, "min", "(II)I"⟩
def dkwJ9_min_0 : List UInt8 := [26, 27, 163, 0, 7, 26, 167, 0, 4, 27, 172]
abbrev dktJ9_min_0 : List UInt8 := dkwJ9_min_0 ++ []
theorem dksJ9_min_0 : cJ9_min.data.toList.drop 0 = dktJ9_min_0 := by decide +kernel
theorem dJ9_min_0 : decode cJ9_min 0 = .ok (.iload_n 0, 1) := dk_26 (dk_at dksJ9_min_0 0 rfl rfl)
theorem dJ9_min_1 : decode cJ9_min 1 = .ok (.iload_n 1, 1) := dk_27 (dk_at dksJ9_min_0 1 rfl rfl)
theorem dJ9_min_2 : decode cJ9_min 2 = .ok (.if_icmp .gt 7, 3) := dk_163 0 7 (dk_at dksJ9_min_0 2 rfl rfl)
theorem dJ9_min_5 : decode cJ9_min 5 = .ok (.iload_n 0, 1) := dk_26 (dk_at dksJ9_min_0 5 rfl rfl)
theorem dJ9_min_6 : decode cJ9_min 6 = .ok (.goto 4, 3) := dk_167 0 4 (dk_at dksJ9_min_0 6 rfl rfl)
theorem dJ9_min_9 : decode cJ9_min 9 = .ok (.iload_n 1, 1) := dk_27 (dk_at dksJ9_min_0 9 rfl rfl)
theorem dJ9_min_10 : decode cJ9_min 10 = .ok (.ireturn, 1) := dk_172 (dk_at dksJ9_min_0 10 rfl rfl)
theorem q107 : (Jvm.Cond.initialized "java/lang/Math") ∈ lw_all := lw_g (lw_at lw_m1 15 rfl) rfl
theorem q408 : (Jvm.Cond.static ({ cls := "java/lang/Math", name := "max", desc := "(II)I" } : Jvm.MethodName)) ∈ lw_all := lw_g (lw_at lw_m2 76 rfl) rfl
theorem q409 : (Jvm.Cond.code ({ cls := "java/lang/Math", name := "max", desc := "(II)I" } : Jvm.MethodName) prog_37_method_65_code (2 : Nat) (Option.some Jvm.ClassFile.FieldType.int)) ∈ lw_all := lw_g (lw_at lw_m2 77 rfl) rfl
theorem q459 : (Jvm.Cond.static ({ cls := "java/lang/Math", name := "min", desc := "(II)I" } : Jvm.MethodName)) ∈ lw_all := lw_g (lw_at lw_m2 127 rfl) rfl
theorem q460 : (Jvm.Cond.code ({ cls := "java/lang/Math", name := "min", desc := "(II)I" } : Jvm.MethodName) prog_37_method_69_code (2 : Nat) (Option.some Jvm.ClassFile.FieldType.int)) ∈ lw_all := lw_g (lw_at lw_m2 128 rfl) rfl

/-! the law's own entry -/
set_option maxRecDepth 100000
abbrev cL_law : ByteArray := code
def dkwL_law_19 : List UInt8 := [167, 254, 55, 4, 172]
abbrev dktL_law_19 : List UInt8 := dkwL_law_19 ++ []
def dkwL_law_18 : List UInt8 := [182, 0, 64, 159, 0, 18, 3, 172, 43, 182, 0, 65, 44, 182, 0, 68, 159, 0, 5, 3, 172, 132, 3, 6]
abbrev dktL_law_18 : List UInt8 := dkwL_law_18 ++ dktL_law_19
def dkwL_law_17 : List UInt8 := [96, 46, 42, 29, 5, 96, 46, 133, 16, 32, 121, 42, 29, 6, 96, 46, 133, 20, 0, 58, 127, 129]
abbrev dktL_law_17 : List UInt8 := dkwL_law_17 ++ dktL_law_18
def dkwL_law_16 : List UInt8 := [96, 46, 133, 16, 32, 121, 42, 29, 6, 96, 46, 133, 20, 0, 58, 127, 129, 182, 0, 60, 44, 42, 29, 4]
abbrev dktL_law_16 : List UInt8 := dkwL_law_16 ++ dktL_law_17
def dkwL_law_15 : List UInt8 := [3, 172, 43, 182, 0, 54, 44, 182, 0, 57, 159, 0, 81, 3, 172, 43, 42, 29, 4, 96, 46, 42, 29, 5]
abbrev dktL_law_15 : List UInt8 := dkwL_law_15 ++ dktL_law_16
def dkwL_law_14 : List UInt8 := [29, 5, 96, 46, 182, 0, 50, 44, 42, 29, 4, 96, 46, 42, 29, 5, 96, 46, 182, 0, 53, 159, 0, 94]
abbrev dktL_law_14 : List UInt8 := dkwL_law_14 ++ dktL_law_15
def dkwL_law_13 : List UInt8 := [29, 4, 96, 46, 42, 29, 5, 96, 46, 182, 0, 49, 159, 0, 127, 3, 172, 43, 42, 29, 4, 96, 46, 42]
abbrev dktL_law_13 : List UInt8 := dkwL_law_13 ++ dktL_law_14
def dkwL_law_12 : List UInt8 := [182, 0, 45, 159, 0, 160, 3, 172, 43, 42, 29, 4, 96, 46, 42, 29, 5, 96, 46, 182, 0, 46, 44, 42]
abbrev dktL_law_12 : List UInt8 := dkwL_law_12 ++ dktL_law_13
def dkwL_law_11 : List UInt8 := [42, 29, 4, 96, 46, 42, 29, 5, 96, 46, 182, 0, 41, 44, 42, 29, 4, 96, 46, 42, 29, 5, 96, 46]
abbrev dktL_law_11 : List UInt8 := dkwL_law_11 ++ dktL_law_12
def dkwL_law_10 : List UInt8 := [46, 182, 0, 37, 44, 42, 29, 4, 96, 46, 42, 29, 5, 96, 46, 182, 0, 40, 159, 0, 193, 3, 172, 43]
abbrev dktL_law_10 : List UInt8 := dkwL_law_10 ++ dktL_law_11
def dkwL_law_9 : List UInt8 := [46, 42, 29, 5, 96, 46, 182, 0, 36, 159, 0, 226, 3, 172, 43, 42, 29, 4, 96, 46, 42, 29, 5, 96]
abbrev dktL_law_9 : List UInt8 := dkwL_law_9 ++ dktL_law_10
def dkwL_law_8 : List UInt8 := [159, 1, 3, 3, 172, 43, 42, 29, 4, 96, 46, 42, 29, 5, 96, 46, 182, 0, 32, 44, 42, 29, 4, 96]
abbrev dktL_law_8 : List UInt8 := dkwL_law_8 ++ dktL_law_9
def dkwL_law_7 : List UInt8 := [159, 1, 26, 3, 172, 43, 42, 29, 4, 96, 46, 182, 0, 28, 44, 42, 29, 4, 96, 46, 182, 0, 31]
abbrev dktL_law_7 : List UInt8 := dkwL_law_7 ++ dktL_law_8
def dkwL_law_6 : List UInt8 := [44, 42, 29, 4, 96, 46, 182, 0, 22, 159, 1, 39, 3, 172, 43, 182, 0, 23, 44, 182, 0, 27]
abbrev dktL_law_6 : List UInt8 := dkwL_law_6 ++ dktL_law_7
def dkwL_law_5 : List UInt8 := [96, 46, 42, 29, 8, 96, 46, 182, 0, 17, 159, 1, 62, 3, 172, 43, 42, 29, 4, 96, 46, 182, 0, 18]
abbrev dktL_law_5 : List UInt8 := dkwL_law_5 ++ dktL_law_6
def dkwL_law_4 : List UInt8 := [96, 46, 182, 0, 13, 44, 42, 29, 4, 96, 46, 42, 29, 5, 96, 46, 42, 29, 6, 96, 46, 42, 29, 7]
abbrev dktL_law_4 : List UInt8 := dkwL_law_4 ++ dktL_law_5
def dkwL_law_3 : List UInt8 := [43, 42, 29, 4, 96, 46, 42, 29, 5, 96, 46, 42, 29, 6, 96, 46, 42, 29, 7, 96, 46, 42, 29, 8]
abbrev dktL_law_3 : List UInt8 := dkwL_law_3 ++ dktL_law_4
def dkwL_law_2 : List UInt8 := [170, 0, 0, 0, 0, 1, 183, 0, 0, 0, 0, 0, 0, 0, 11, 0, 0, 0, 63, 0, 0, 0, 126, 0, 0, 0, 149, 0, 0, 0, 162, 0, 0, 0, 185, 0, 0, 0, 218, 0, 0, 0, 251, 0, 0, 1, 28, 0, 0, 1, 61, 0, 0, 1, 94, 0, 0, 1, 107, 0, 0, 1, 170]
abbrev dktL_law_2 : List UInt8 := dkwL_law_2 ++ dktL_law_3
def dkwL_law_1 : List UInt8 := [163, 1, 198, 42, 29, 46, 16, 15, 126]
abbrev dktL_law_1 : List UInt8 := dkwL_law_1 ++ dktL_law_2
def dkwL_law_0 : List UInt8 := [187, 0, 7, 89, 183, 0, 9, 76, 187, 0, 10, 89, 183, 0, 12, 77, 3, 62, 29, 42, 190, 16, 6, 100]
abbrev dktL_law_0 : List UInt8 := dkwL_law_0 ++ dktL_law_1
theorem dksL_law_0 : cL_law.data.toList.drop 0 = dktL_law_0 := by decide +kernel
theorem dksL_law_1 : cL_law.data.toList.drop 24 = dktL_law_1 := dk_seg dksL_law_0 24 rfl rfl
theorem dksL_law_2 : cL_law.data.toList.drop 33 = dktL_law_2 := dk_seg dksL_law_1 9 rfl rfl
theorem dksL_law_3 : cL_law.data.toList.drop 96 = dktL_law_3 := dk_seg dksL_law_2 63 rfl rfl
theorem dksL_law_4 : cL_law.data.toList.drop 120 = dktL_law_4 := dk_seg dksL_law_3 24 rfl rfl
theorem dksL_law_5 : cL_law.data.toList.drop 144 = dktL_law_5 := dk_seg dksL_law_4 24 rfl rfl
theorem dksL_law_6 : cL_law.data.toList.drop 168 = dktL_law_6 := dk_seg dksL_law_5 24 rfl rfl
theorem dksL_law_7 : cL_law.data.toList.drop 190 = dktL_law_7 := dk_seg dksL_law_6 22 rfl rfl
theorem dksL_law_8 : cL_law.data.toList.drop 213 = dktL_law_8 := dk_seg dksL_law_7 23 rfl rfl
theorem dksL_law_9 : cL_law.data.toList.drop 237 = dktL_law_9 := dk_seg dksL_law_8 24 rfl rfl
theorem dksL_law_10 : cL_law.data.toList.drop 261 = dktL_law_10 := dk_seg dksL_law_9 24 rfl rfl
theorem dksL_law_11 : cL_law.data.toList.drop 285 = dktL_law_11 := dk_seg dksL_law_10 24 rfl rfl
theorem dksL_law_12 : cL_law.data.toList.drop 309 = dktL_law_12 := dk_seg dksL_law_11 24 rfl rfl
theorem dksL_law_13 : cL_law.data.toList.drop 333 = dktL_law_13 := dk_seg dksL_law_12 24 rfl rfl
theorem dksL_law_14 : cL_law.data.toList.drop 357 = dktL_law_14 := dk_seg dksL_law_13 24 rfl rfl
theorem dksL_law_15 : cL_law.data.toList.drop 381 = dktL_law_15 := dk_seg dksL_law_14 24 rfl rfl
theorem dksL_law_16 : cL_law.data.toList.drop 405 = dktL_law_16 := dk_seg dksL_law_15 24 rfl rfl
theorem dksL_law_17 : cL_law.data.toList.drop 429 = dktL_law_17 := dk_seg dksL_law_16 24 rfl rfl
theorem dksL_law_18 : cL_law.data.toList.drop 451 = dktL_law_18 := dk_seg dksL_law_17 22 rfl rfl
theorem dksL_law_19 : cL_law.data.toList.drop 475 = dktL_law_19 := dk_seg dksL_law_18 24 rfl rfl
theorem dL_law_0 : decode cL_law 0 = .ok (.new 7, 3) := dk_187 0 7 (dk_at dksL_law_0 0 rfl rfl)
theorem dL_law_3 : decode cL_law 3 = .ok (.dup, 1) := dk_89 (dk_at dksL_law_0 3 rfl rfl)
theorem dL_law_4 : decode cL_law 4 = .ok (.invokespecial 9, 3) := dk_183 0 9 (dk_at dksL_law_0 4 rfl rfl)
theorem dL_law_7 : decode cL_law 7 = .ok (.astore_n 1, 1) := dk_76 (dk_at dksL_law_0 7 rfl rfl)
theorem dL_law_8 : decode cL_law 8 = .ok (.new 10, 3) := dk_187 0 10 (dk_at dksL_law_0 8 rfl rfl)
theorem dL_law_11 : decode cL_law 11 = .ok (.dup, 1) := dk_89 (dk_at dksL_law_0 11 rfl rfl)
theorem dL_law_12 : decode cL_law 12 = .ok (.invokespecial 12, 3) := dk_183 0 12 (dk_at dksL_law_0 12 rfl rfl)
theorem dL_law_15 : decode cL_law 15 = .ok (.astore_n 2, 1) := dk_77 (dk_at dksL_law_0 15 rfl rfl)
theorem dL_law_16 : decode cL_law 16 = .ok (.iconst 0, 1) := dk_3 (dk_at dksL_law_0 16 rfl rfl)
theorem dL_law_17 : decode cL_law 17 = .ok (.istore_n 3, 1) := dk_62 (dk_at dksL_law_0 17 rfl rfl)
theorem dL_law_18 : decode cL_law 18 = .ok (.iload_n 3, 1) := dk_29 (dk_at dksL_law_0 18 rfl rfl)
theorem dL_law_19 : decode cL_law 19 = .ok (.aload_n 0, 1) := dk_42 (dk_at dksL_law_0 19 rfl rfl)
theorem dL_law_20 : decode cL_law 20 = .ok (.arraylength, 1) := dk_190 (dk_at dksL_law_0 20 rfl rfl)
theorem dL_law_21 : decode cL_law 21 = .ok (.bipush 6, 2) := dk_16 6 (dk_at dksL_law_0 21 rfl rfl)
theorem dL_law_23 : decode cL_law 23 = .ok (.isub, 1) := dk_100 (dk_at dksL_law_0 23 rfl rfl)
theorem dL_law_24 : decode cL_law 24 = .ok (.if_icmp .gt 454, 3) := dk_163 1 198 (dk_at dksL_law_1 0 rfl rfl)
theorem dL_law_27 : decode cL_law 27 = .ok (.aload_n 0, 1) := dk_42 (dk_at dksL_law_1 3 rfl rfl)
theorem dL_law_28 : decode cL_law 28 = .ok (.iload_n 3, 1) := dk_29 (dk_at dksL_law_1 4 rfl rfl)
theorem dL_law_29 : decode cL_law 29 = .ok (.iaload, 1) := dk_46 (dk_at dksL_law_1 5 rfl rfl)
theorem dL_law_30 : decode cL_law 30 = .ok (.bipush 15, 2) := dk_16 15 (dk_at dksL_law_1 6 rfl rfl)
theorem dL_law_32 : decode cL_law 32 = .ok (.iand, 1) := dk_126 (dk_at dksL_law_1 8 rfl rfl)
theorem dL_law_33 : decode cL_law 33 = .ok (.tableswitch 439 0 11 #[63, 126, 149, 162, 185, 218, 251, 284, 317, 350, 363, 426], 63) := by decide +kernel
theorem dL_law_96 : decode cL_law 96 = .ok (.aload_n 1, 1) := dk_43 (dk_at dksL_law_3 0 rfl rfl)
theorem dL_law_97 : decode cL_law 97 = .ok (.aload_n 0, 1) := dk_42 (dk_at dksL_law_3 1 rfl rfl)
theorem dL_law_98 : decode cL_law 98 = .ok (.iload_n 3, 1) := dk_29 (dk_at dksL_law_3 2 rfl rfl)
theorem dL_law_99 : decode cL_law 99 = .ok (.iconst 1, 1) := dk_4 (dk_at dksL_law_3 3 rfl rfl)
theorem dL_law_100 : decode cL_law 100 = .ok (.iadd, 1) := dk_96 (dk_at dksL_law_3 4 rfl rfl)
theorem dL_law_101 : decode cL_law 101 = .ok (.iaload, 1) := dk_46 (dk_at dksL_law_3 5 rfl rfl)
theorem dL_law_102 : decode cL_law 102 = .ok (.aload_n 0, 1) := dk_42 (dk_at dksL_law_3 6 rfl rfl)
theorem dL_law_103 : decode cL_law 103 = .ok (.iload_n 3, 1) := dk_29 (dk_at dksL_law_3 7 rfl rfl)
theorem dL_law_104 : decode cL_law 104 = .ok (.iconst 2, 1) := dk_5 (dk_at dksL_law_3 8 rfl rfl)
theorem dL_law_105 : decode cL_law 105 = .ok (.iadd, 1) := dk_96 (dk_at dksL_law_3 9 rfl rfl)
theorem dL_law_106 : decode cL_law 106 = .ok (.iaload, 1) := dk_46 (dk_at dksL_law_3 10 rfl rfl)
theorem dL_law_107 : decode cL_law 107 = .ok (.aload_n 0, 1) := dk_42 (dk_at dksL_law_3 11 rfl rfl)
theorem dL_law_108 : decode cL_law 108 = .ok (.iload_n 3, 1) := dk_29 (dk_at dksL_law_3 12 rfl rfl)
theorem dL_law_109 : decode cL_law 109 = .ok (.iconst 3, 1) := dk_6 (dk_at dksL_law_3 13 rfl rfl)
theorem dL_law_110 : decode cL_law 110 = .ok (.iadd, 1) := dk_96 (dk_at dksL_law_3 14 rfl rfl)
theorem dL_law_111 : decode cL_law 111 = .ok (.iaload, 1) := dk_46 (dk_at dksL_law_3 15 rfl rfl)
theorem dL_law_112 : decode cL_law 112 = .ok (.aload_n 0, 1) := dk_42 (dk_at dksL_law_3 16 rfl rfl)
theorem dL_law_113 : decode cL_law 113 = .ok (.iload_n 3, 1) := dk_29 (dk_at dksL_law_3 17 rfl rfl)
theorem dL_law_114 : decode cL_law 114 = .ok (.iconst 4, 1) := dk_7 (dk_at dksL_law_3 18 rfl rfl)
theorem dL_law_115 : decode cL_law 115 = .ok (.iadd, 1) := dk_96 (dk_at dksL_law_3 19 rfl rfl)
theorem dL_law_116 : decode cL_law 116 = .ok (.iaload, 1) := dk_46 (dk_at dksL_law_3 20 rfl rfl)
theorem dL_law_117 : decode cL_law 117 = .ok (.aload_n 0, 1) := dk_42 (dk_at dksL_law_3 21 rfl rfl)
theorem dL_law_118 : decode cL_law 118 = .ok (.iload_n 3, 1) := dk_29 (dk_at dksL_law_3 22 rfl rfl)
theorem dL_law_119 : decode cL_law 119 = .ok (.iconst 5, 1) := dk_8 (dk_at dksL_law_3 23 rfl rfl)
theorem dL_law_120 : decode cL_law 120 = .ok (.iadd, 1) := dk_96 (dk_at dksL_law_4 0 rfl rfl)
theorem dL_law_121 : decode cL_law 121 = .ok (.iaload, 1) := dk_46 (dk_at dksL_law_4 1 rfl rfl)
theorem dL_law_122 : decode cL_law 122 = .ok (.invokevirtual 13, 3) := dk_182 0 13 (dk_at dksL_law_4 2 rfl rfl)
theorem dL_law_125 : decode cL_law 125 = .ok (.aload_n 2, 1) := dk_44 (dk_at dksL_law_4 5 rfl rfl)
theorem dL_law_126 : decode cL_law 126 = .ok (.aload_n 0, 1) := dk_42 (dk_at dksL_law_4 6 rfl rfl)
theorem dL_law_127 : decode cL_law 127 = .ok (.iload_n 3, 1) := dk_29 (dk_at dksL_law_4 7 rfl rfl)
theorem dL_law_128 : decode cL_law 128 = .ok (.iconst 1, 1) := dk_4 (dk_at dksL_law_4 8 rfl rfl)
theorem dL_law_129 : decode cL_law 129 = .ok (.iadd, 1) := dk_96 (dk_at dksL_law_4 9 rfl rfl)
theorem dL_law_130 : decode cL_law 130 = .ok (.iaload, 1) := dk_46 (dk_at dksL_law_4 10 rfl rfl)
theorem dL_law_131 : decode cL_law 131 = .ok (.aload_n 0, 1) := dk_42 (dk_at dksL_law_4 11 rfl rfl)
theorem dL_law_132 : decode cL_law 132 = .ok (.iload_n 3, 1) := dk_29 (dk_at dksL_law_4 12 rfl rfl)
theorem dL_law_133 : decode cL_law 133 = .ok (.iconst 2, 1) := dk_5 (dk_at dksL_law_4 13 rfl rfl)
theorem dL_law_134 : decode cL_law 134 = .ok (.iadd, 1) := dk_96 (dk_at dksL_law_4 14 rfl rfl)
theorem dL_law_135 : decode cL_law 135 = .ok (.iaload, 1) := dk_46 (dk_at dksL_law_4 15 rfl rfl)
theorem dL_law_136 : decode cL_law 136 = .ok (.aload_n 0, 1) := dk_42 (dk_at dksL_law_4 16 rfl rfl)
theorem dL_law_137 : decode cL_law 137 = .ok (.iload_n 3, 1) := dk_29 (dk_at dksL_law_4 17 rfl rfl)
theorem dL_law_138 : decode cL_law 138 = .ok (.iconst 3, 1) := dk_6 (dk_at dksL_law_4 18 rfl rfl)
theorem dL_law_139 : decode cL_law 139 = .ok (.iadd, 1) := dk_96 (dk_at dksL_law_4 19 rfl rfl)
theorem dL_law_140 : decode cL_law 140 = .ok (.iaload, 1) := dk_46 (dk_at dksL_law_4 20 rfl rfl)
theorem dL_law_141 : decode cL_law 141 = .ok (.aload_n 0, 1) := dk_42 (dk_at dksL_law_4 21 rfl rfl)
theorem dL_law_142 : decode cL_law 142 = .ok (.iload_n 3, 1) := dk_29 (dk_at dksL_law_4 22 rfl rfl)
theorem dL_law_143 : decode cL_law 143 = .ok (.iconst 4, 1) := dk_7 (dk_at dksL_law_4 23 rfl rfl)
theorem dL_law_144 : decode cL_law 144 = .ok (.iadd, 1) := dk_96 (dk_at dksL_law_5 0 rfl rfl)
theorem dL_law_145 : decode cL_law 145 = .ok (.iaload, 1) := dk_46 (dk_at dksL_law_5 1 rfl rfl)
theorem dL_law_146 : decode cL_law 146 = .ok (.aload_n 0, 1) := dk_42 (dk_at dksL_law_5 2 rfl rfl)
theorem dL_law_147 : decode cL_law 147 = .ok (.iload_n 3, 1) := dk_29 (dk_at dksL_law_5 3 rfl rfl)
theorem dL_law_148 : decode cL_law 148 = .ok (.iconst 5, 1) := dk_8 (dk_at dksL_law_5 4 rfl rfl)
theorem dL_law_149 : decode cL_law 149 = .ok (.iadd, 1) := dk_96 (dk_at dksL_law_5 5 rfl rfl)
theorem dL_law_150 : decode cL_law 150 = .ok (.iaload, 1) := dk_46 (dk_at dksL_law_5 6 rfl rfl)
theorem dL_law_151 : decode cL_law 151 = .ok (.invokevirtual 17, 3) := dk_182 0 17 (dk_at dksL_law_5 7 rfl rfl)
theorem dL_law_154 : decode cL_law 154 = .ok (.if_icmp .eq 318, 3) := dk_159 1 62 (dk_at dksL_law_5 10 rfl rfl)
theorem dL_law_157 : decode cL_law 157 = .ok (.iconst 0, 1) := dk_3 (dk_at dksL_law_5 13 rfl rfl)
theorem dL_law_158 : decode cL_law 158 = .ok (.ireturn, 1) := dk_172 (dk_at dksL_law_5 14 rfl rfl)
theorem dL_law_159 : decode cL_law 159 = .ok (.aload_n 1, 1) := dk_43 (dk_at dksL_law_5 15 rfl rfl)
theorem dL_law_160 : decode cL_law 160 = .ok (.aload_n 0, 1) := dk_42 (dk_at dksL_law_5 16 rfl rfl)
theorem dL_law_161 : decode cL_law 161 = .ok (.iload_n 3, 1) := dk_29 (dk_at dksL_law_5 17 rfl rfl)
theorem dL_law_162 : decode cL_law 162 = .ok (.iconst 1, 1) := dk_4 (dk_at dksL_law_5 18 rfl rfl)
theorem dL_law_163 : decode cL_law 163 = .ok (.iadd, 1) := dk_96 (dk_at dksL_law_5 19 rfl rfl)
theorem dL_law_164 : decode cL_law 164 = .ok (.iaload, 1) := dk_46 (dk_at dksL_law_5 20 rfl rfl)
theorem dL_law_165 : decode cL_law 165 = .ok (.invokevirtual 18, 3) := dk_182 0 18 (dk_at dksL_law_5 21 rfl rfl)
theorem dL_law_168 : decode cL_law 168 = .ok (.aload_n 2, 1) := dk_44 (dk_at dksL_law_6 0 rfl rfl)
theorem dL_law_169 : decode cL_law 169 = .ok (.aload_n 0, 1) := dk_42 (dk_at dksL_law_6 1 rfl rfl)
theorem dL_law_170 : decode cL_law 170 = .ok (.iload_n 3, 1) := dk_29 (dk_at dksL_law_6 2 rfl rfl)
theorem dL_law_171 : decode cL_law 171 = .ok (.iconst 1, 1) := dk_4 (dk_at dksL_law_6 3 rfl rfl)
theorem dL_law_172 : decode cL_law 172 = .ok (.iadd, 1) := dk_96 (dk_at dksL_law_6 4 rfl rfl)
theorem dL_law_173 : decode cL_law 173 = .ok (.iaload, 1) := dk_46 (dk_at dksL_law_6 5 rfl rfl)
theorem dL_law_174 : decode cL_law 174 = .ok (.invokevirtual 22, 3) := dk_182 0 22 (dk_at dksL_law_6 6 rfl rfl)
theorem dL_law_177 : decode cL_law 177 = .ok (.if_icmp .eq 295, 3) := dk_159 1 39 (dk_at dksL_law_6 9 rfl rfl)
theorem dL_law_180 : decode cL_law 180 = .ok (.iconst 0, 1) := dk_3 (dk_at dksL_law_6 12 rfl rfl)
theorem dL_law_181 : decode cL_law 181 = .ok (.ireturn, 1) := dk_172 (dk_at dksL_law_6 13 rfl rfl)
theorem dL_law_182 : decode cL_law 182 = .ok (.aload_n 1, 1) := dk_43 (dk_at dksL_law_6 14 rfl rfl)
theorem dL_law_183 : decode cL_law 183 = .ok (.invokevirtual 23, 3) := dk_182 0 23 (dk_at dksL_law_6 15 rfl rfl)
theorem dL_law_186 : decode cL_law 186 = .ok (.aload_n 2, 1) := dk_44 (dk_at dksL_law_6 18 rfl rfl)
theorem dL_law_187 : decode cL_law 187 = .ok (.invokevirtual 27, 3) := dk_182 0 27 (dk_at dksL_law_6 19 rfl rfl)
theorem dL_law_190 : decode cL_law 190 = .ok (.if_icmp .eq 282, 3) := dk_159 1 26 (dk_at dksL_law_7 0 rfl rfl)
theorem dL_law_193 : decode cL_law 193 = .ok (.iconst 0, 1) := dk_3 (dk_at dksL_law_7 3 rfl rfl)
theorem dL_law_194 : decode cL_law 194 = .ok (.ireturn, 1) := dk_172 (dk_at dksL_law_7 4 rfl rfl)
theorem dL_law_195 : decode cL_law 195 = .ok (.aload_n 1, 1) := dk_43 (dk_at dksL_law_7 5 rfl rfl)
theorem dL_law_196 : decode cL_law 196 = .ok (.aload_n 0, 1) := dk_42 (dk_at dksL_law_7 6 rfl rfl)
theorem dL_law_197 : decode cL_law 197 = .ok (.iload_n 3, 1) := dk_29 (dk_at dksL_law_7 7 rfl rfl)
theorem dL_law_198 : decode cL_law 198 = .ok (.iconst 1, 1) := dk_4 (dk_at dksL_law_7 8 rfl rfl)
theorem dL_law_199 : decode cL_law 199 = .ok (.iadd, 1) := dk_96 (dk_at dksL_law_7 9 rfl rfl)
theorem dL_law_200 : decode cL_law 200 = .ok (.iaload, 1) := dk_46 (dk_at dksL_law_7 10 rfl rfl)
theorem dL_law_201 : decode cL_law 201 = .ok (.invokevirtual 28, 3) := dk_182 0 28 (dk_at dksL_law_7 11 rfl rfl)
theorem dL_law_204 : decode cL_law 204 = .ok (.aload_n 2, 1) := dk_44 (dk_at dksL_law_7 14 rfl rfl)
theorem dL_law_205 : decode cL_law 205 = .ok (.aload_n 0, 1) := dk_42 (dk_at dksL_law_7 15 rfl rfl)
theorem dL_law_206 : decode cL_law 206 = .ok (.iload_n 3, 1) := dk_29 (dk_at dksL_law_7 16 rfl rfl)
theorem dL_law_207 : decode cL_law 207 = .ok (.iconst 1, 1) := dk_4 (dk_at dksL_law_7 17 rfl rfl)
theorem dL_law_208 : decode cL_law 208 = .ok (.iadd, 1) := dk_96 (dk_at dksL_law_7 18 rfl rfl)
theorem dL_law_209 : decode cL_law 209 = .ok (.iaload, 1) := dk_46 (dk_at dksL_law_7 19 rfl rfl)
theorem dL_law_210 : decode cL_law 210 = .ok (.invokevirtual 31, 3) := dk_182 0 31 (dk_at dksL_law_7 20 rfl rfl)
theorem dL_law_213 : decode cL_law 213 = .ok (.if_icmp .eq 259, 3) := dk_159 1 3 (dk_at dksL_law_8 0 rfl rfl)
theorem dL_law_216 : decode cL_law 216 = .ok (.iconst 0, 1) := dk_3 (dk_at dksL_law_8 3 rfl rfl)
theorem dL_law_217 : decode cL_law 217 = .ok (.ireturn, 1) := dk_172 (dk_at dksL_law_8 4 rfl rfl)
theorem dL_law_218 : decode cL_law 218 = .ok (.aload_n 1, 1) := dk_43 (dk_at dksL_law_8 5 rfl rfl)
theorem dL_law_219 : decode cL_law 219 = .ok (.aload_n 0, 1) := dk_42 (dk_at dksL_law_8 6 rfl rfl)
theorem dL_law_220 : decode cL_law 220 = .ok (.iload_n 3, 1) := dk_29 (dk_at dksL_law_8 7 rfl rfl)
theorem dL_law_221 : decode cL_law 221 = .ok (.iconst 1, 1) := dk_4 (dk_at dksL_law_8 8 rfl rfl)
theorem dL_law_222 : decode cL_law 222 = .ok (.iadd, 1) := dk_96 (dk_at dksL_law_8 9 rfl rfl)
theorem dL_law_223 : decode cL_law 223 = .ok (.iaload, 1) := dk_46 (dk_at dksL_law_8 10 rfl rfl)
theorem dL_law_224 : decode cL_law 224 = .ok (.aload_n 0, 1) := dk_42 (dk_at dksL_law_8 11 rfl rfl)
theorem dL_law_225 : decode cL_law 225 = .ok (.iload_n 3, 1) := dk_29 (dk_at dksL_law_8 12 rfl rfl)
theorem dL_law_226 : decode cL_law 226 = .ok (.iconst 2, 1) := dk_5 (dk_at dksL_law_8 13 rfl rfl)
theorem dL_law_227 : decode cL_law 227 = .ok (.iadd, 1) := dk_96 (dk_at dksL_law_8 14 rfl rfl)
theorem dL_law_228 : decode cL_law 228 = .ok (.iaload, 1) := dk_46 (dk_at dksL_law_8 15 rfl rfl)
theorem dL_law_229 : decode cL_law 229 = .ok (.invokevirtual 32, 3) := dk_182 0 32 (dk_at dksL_law_8 16 rfl rfl)
theorem dL_law_232 : decode cL_law 232 = .ok (.aload_n 2, 1) := dk_44 (dk_at dksL_law_8 19 rfl rfl)
theorem dL_law_233 : decode cL_law 233 = .ok (.aload_n 0, 1) := dk_42 (dk_at dksL_law_8 20 rfl rfl)
theorem dL_law_234 : decode cL_law 234 = .ok (.iload_n 3, 1) := dk_29 (dk_at dksL_law_8 21 rfl rfl)
theorem dL_law_235 : decode cL_law 235 = .ok (.iconst 1, 1) := dk_4 (dk_at dksL_law_8 22 rfl rfl)
theorem dL_law_236 : decode cL_law 236 = .ok (.iadd, 1) := dk_96 (dk_at dksL_law_8 23 rfl rfl)
theorem dL_law_237 : decode cL_law 237 = .ok (.iaload, 1) := dk_46 (dk_at dksL_law_9 0 rfl rfl)
theorem dL_law_238 : decode cL_law 238 = .ok (.aload_n 0, 1) := dk_42 (dk_at dksL_law_9 1 rfl rfl)
theorem dL_law_239 : decode cL_law 239 = .ok (.iload_n 3, 1) := dk_29 (dk_at dksL_law_9 2 rfl rfl)
theorem dL_law_240 : decode cL_law 240 = .ok (.iconst 2, 1) := dk_5 (dk_at dksL_law_9 3 rfl rfl)
theorem dL_law_241 : decode cL_law 241 = .ok (.iadd, 1) := dk_96 (dk_at dksL_law_9 4 rfl rfl)
theorem dL_law_242 : decode cL_law 242 = .ok (.iaload, 1) := dk_46 (dk_at dksL_law_9 5 rfl rfl)
theorem dL_law_243 : decode cL_law 243 = .ok (.invokevirtual 36, 3) := dk_182 0 36 (dk_at dksL_law_9 6 rfl rfl)
theorem dL_law_246 : decode cL_law 246 = .ok (.if_icmp .eq 226, 3) := dk_159 0 226 (dk_at dksL_law_9 9 rfl rfl)
theorem dL_law_249 : decode cL_law 249 = .ok (.iconst 0, 1) := dk_3 (dk_at dksL_law_9 12 rfl rfl)
theorem dL_law_250 : decode cL_law 250 = .ok (.ireturn, 1) := dk_172 (dk_at dksL_law_9 13 rfl rfl)
theorem dL_law_251 : decode cL_law 251 = .ok (.aload_n 1, 1) := dk_43 (dk_at dksL_law_9 14 rfl rfl)
theorem dL_law_252 : decode cL_law 252 = .ok (.aload_n 0, 1) := dk_42 (dk_at dksL_law_9 15 rfl rfl)
theorem dL_law_253 : decode cL_law 253 = .ok (.iload_n 3, 1) := dk_29 (dk_at dksL_law_9 16 rfl rfl)
theorem dL_law_254 : decode cL_law 254 = .ok (.iconst 1, 1) := dk_4 (dk_at dksL_law_9 17 rfl rfl)
theorem dL_law_255 : decode cL_law 255 = .ok (.iadd, 1) := dk_96 (dk_at dksL_law_9 18 rfl rfl)
theorem dL_law_256 : decode cL_law 256 = .ok (.iaload, 1) := dk_46 (dk_at dksL_law_9 19 rfl rfl)
theorem dL_law_257 : decode cL_law 257 = .ok (.aload_n 0, 1) := dk_42 (dk_at dksL_law_9 20 rfl rfl)
theorem dL_law_258 : decode cL_law 258 = .ok (.iload_n 3, 1) := dk_29 (dk_at dksL_law_9 21 rfl rfl)
theorem dL_law_259 : decode cL_law 259 = .ok (.iconst 2, 1) := dk_5 (dk_at dksL_law_9 22 rfl rfl)
theorem dL_law_260 : decode cL_law 260 = .ok (.iadd, 1) := dk_96 (dk_at dksL_law_9 23 rfl rfl)
theorem dL_law_261 : decode cL_law 261 = .ok (.iaload, 1) := dk_46 (dk_at dksL_law_10 0 rfl rfl)
theorem dL_law_262 : decode cL_law 262 = .ok (.invokevirtual 37, 3) := dk_182 0 37 (dk_at dksL_law_10 1 rfl rfl)
theorem dL_law_265 : decode cL_law 265 = .ok (.aload_n 2, 1) := dk_44 (dk_at dksL_law_10 4 rfl rfl)
theorem dL_law_266 : decode cL_law 266 = .ok (.aload_n 0, 1) := dk_42 (dk_at dksL_law_10 5 rfl rfl)
theorem dL_law_267 : decode cL_law 267 = .ok (.iload_n 3, 1) := dk_29 (dk_at dksL_law_10 6 rfl rfl)
theorem dL_law_268 : decode cL_law 268 = .ok (.iconst 1, 1) := dk_4 (dk_at dksL_law_10 7 rfl rfl)
theorem dL_law_269 : decode cL_law 269 = .ok (.iadd, 1) := dk_96 (dk_at dksL_law_10 8 rfl rfl)
theorem dL_law_270 : decode cL_law 270 = .ok (.iaload, 1) := dk_46 (dk_at dksL_law_10 9 rfl rfl)
theorem dL_law_271 : decode cL_law 271 = .ok (.aload_n 0, 1) := dk_42 (dk_at dksL_law_10 10 rfl rfl)
theorem dL_law_272 : decode cL_law 272 = .ok (.iload_n 3, 1) := dk_29 (dk_at dksL_law_10 11 rfl rfl)
theorem dL_law_273 : decode cL_law 273 = .ok (.iconst 2, 1) := dk_5 (dk_at dksL_law_10 12 rfl rfl)
theorem dL_law_274 : decode cL_law 274 = .ok (.iadd, 1) := dk_96 (dk_at dksL_law_10 13 rfl rfl)
theorem dL_law_275 : decode cL_law 275 = .ok (.iaload, 1) := dk_46 (dk_at dksL_law_10 14 rfl rfl)
theorem dL_law_276 : decode cL_law 276 = .ok (.invokevirtual 40, 3) := dk_182 0 40 (dk_at dksL_law_10 15 rfl rfl)
theorem dL_law_279 : decode cL_law 279 = .ok (.if_icmp .eq 193, 3) := dk_159 0 193 (dk_at dksL_law_10 18 rfl rfl)
theorem dL_law_282 : decode cL_law 282 = .ok (.iconst 0, 1) := dk_3 (dk_at dksL_law_10 21 rfl rfl)
theorem dL_law_283 : decode cL_law 283 = .ok (.ireturn, 1) := dk_172 (dk_at dksL_law_10 22 rfl rfl)
theorem dL_law_284 : decode cL_law 284 = .ok (.aload_n 1, 1) := dk_43 (dk_at dksL_law_10 23 rfl rfl)
theorem dL_law_285 : decode cL_law 285 = .ok (.aload_n 0, 1) := dk_42 (dk_at dksL_law_11 0 rfl rfl)
theorem dL_law_286 : decode cL_law 286 = .ok (.iload_n 3, 1) := dk_29 (dk_at dksL_law_11 1 rfl rfl)
theorem dL_law_287 : decode cL_law 287 = .ok (.iconst 1, 1) := dk_4 (dk_at dksL_law_11 2 rfl rfl)
theorem dL_law_288 : decode cL_law 288 = .ok (.iadd, 1) := dk_96 (dk_at dksL_law_11 3 rfl rfl)
theorem dL_law_289 : decode cL_law 289 = .ok (.iaload, 1) := dk_46 (dk_at dksL_law_11 4 rfl rfl)
theorem dL_law_290 : decode cL_law 290 = .ok (.aload_n 0, 1) := dk_42 (dk_at dksL_law_11 5 rfl rfl)
theorem dL_law_291 : decode cL_law 291 = .ok (.iload_n 3, 1) := dk_29 (dk_at dksL_law_11 6 rfl rfl)
theorem dL_law_292 : decode cL_law 292 = .ok (.iconst 2, 1) := dk_5 (dk_at dksL_law_11 7 rfl rfl)
theorem dL_law_293 : decode cL_law 293 = .ok (.iadd, 1) := dk_96 (dk_at dksL_law_11 8 rfl rfl)
theorem dL_law_294 : decode cL_law 294 = .ok (.iaload, 1) := dk_46 (dk_at dksL_law_11 9 rfl rfl)
theorem dL_law_295 : decode cL_law 295 = .ok (.invokevirtual 41, 3) := dk_182 0 41 (dk_at dksL_law_11 10 rfl rfl)
theorem dL_law_298 : decode cL_law 298 = .ok (.aload_n 2, 1) := dk_44 (dk_at dksL_law_11 13 rfl rfl)
theorem dL_law_299 : decode cL_law 299 = .ok (.aload_n 0, 1) := dk_42 (dk_at dksL_law_11 14 rfl rfl)
theorem dL_law_300 : decode cL_law 300 = .ok (.iload_n 3, 1) := dk_29 (dk_at dksL_law_11 15 rfl rfl)
theorem dL_law_301 : decode cL_law 301 = .ok (.iconst 1, 1) := dk_4 (dk_at dksL_law_11 16 rfl rfl)
theorem dL_law_302 : decode cL_law 302 = .ok (.iadd, 1) := dk_96 (dk_at dksL_law_11 17 rfl rfl)
theorem dL_law_303 : decode cL_law 303 = .ok (.iaload, 1) := dk_46 (dk_at dksL_law_11 18 rfl rfl)
theorem dL_law_304 : decode cL_law 304 = .ok (.aload_n 0, 1) := dk_42 (dk_at dksL_law_11 19 rfl rfl)
theorem dL_law_305 : decode cL_law 305 = .ok (.iload_n 3, 1) := dk_29 (dk_at dksL_law_11 20 rfl rfl)
theorem dL_law_306 : decode cL_law 306 = .ok (.iconst 2, 1) := dk_5 (dk_at dksL_law_11 21 rfl rfl)
theorem dL_law_307 : decode cL_law 307 = .ok (.iadd, 1) := dk_96 (dk_at dksL_law_11 22 rfl rfl)
theorem dL_law_308 : decode cL_law 308 = .ok (.iaload, 1) := dk_46 (dk_at dksL_law_11 23 rfl rfl)
theorem dL_law_309 : decode cL_law 309 = .ok (.invokevirtual 45, 3) := dk_182 0 45 (dk_at dksL_law_12 0 rfl rfl)
theorem dL_law_312 : decode cL_law 312 = .ok (.if_icmp .eq 160, 3) := dk_159 0 160 (dk_at dksL_law_12 3 rfl rfl)
theorem dL_law_315 : decode cL_law 315 = .ok (.iconst 0, 1) := dk_3 (dk_at dksL_law_12 6 rfl rfl)
theorem dL_law_316 : decode cL_law 316 = .ok (.ireturn, 1) := dk_172 (dk_at dksL_law_12 7 rfl rfl)
theorem dL_law_317 : decode cL_law 317 = .ok (.aload_n 1, 1) := dk_43 (dk_at dksL_law_12 8 rfl rfl)
theorem dL_law_318 : decode cL_law 318 = .ok (.aload_n 0, 1) := dk_42 (dk_at dksL_law_12 9 rfl rfl)
theorem dL_law_319 : decode cL_law 319 = .ok (.iload_n 3, 1) := dk_29 (dk_at dksL_law_12 10 rfl rfl)
theorem dL_law_320 : decode cL_law 320 = .ok (.iconst 1, 1) := dk_4 (dk_at dksL_law_12 11 rfl rfl)
theorem dL_law_321 : decode cL_law 321 = .ok (.iadd, 1) := dk_96 (dk_at dksL_law_12 12 rfl rfl)
theorem dL_law_322 : decode cL_law 322 = .ok (.iaload, 1) := dk_46 (dk_at dksL_law_12 13 rfl rfl)
theorem dL_law_323 : decode cL_law 323 = .ok (.aload_n 0, 1) := dk_42 (dk_at dksL_law_12 14 rfl rfl)
theorem dL_law_324 : decode cL_law 324 = .ok (.iload_n 3, 1) := dk_29 (dk_at dksL_law_12 15 rfl rfl)
theorem dL_law_325 : decode cL_law 325 = .ok (.iconst 2, 1) := dk_5 (dk_at dksL_law_12 16 rfl rfl)
theorem dL_law_326 : decode cL_law 326 = .ok (.iadd, 1) := dk_96 (dk_at dksL_law_12 17 rfl rfl)
theorem dL_law_327 : decode cL_law 327 = .ok (.iaload, 1) := dk_46 (dk_at dksL_law_12 18 rfl rfl)
theorem dL_law_328 : decode cL_law 328 = .ok (.invokevirtual 46, 3) := dk_182 0 46 (dk_at dksL_law_12 19 rfl rfl)
theorem dL_law_331 : decode cL_law 331 = .ok (.aload_n 2, 1) := dk_44 (dk_at dksL_law_12 22 rfl rfl)
theorem dL_law_332 : decode cL_law 332 = .ok (.aload_n 0, 1) := dk_42 (dk_at dksL_law_12 23 rfl rfl)
theorem dL_law_333 : decode cL_law 333 = .ok (.iload_n 3, 1) := dk_29 (dk_at dksL_law_13 0 rfl rfl)
theorem dL_law_334 : decode cL_law 334 = .ok (.iconst 1, 1) := dk_4 (dk_at dksL_law_13 1 rfl rfl)
theorem dL_law_335 : decode cL_law 335 = .ok (.iadd, 1) := dk_96 (dk_at dksL_law_13 2 rfl rfl)
theorem dL_law_336 : decode cL_law 336 = .ok (.iaload, 1) := dk_46 (dk_at dksL_law_13 3 rfl rfl)
theorem dL_law_337 : decode cL_law 337 = .ok (.aload_n 0, 1) := dk_42 (dk_at dksL_law_13 4 rfl rfl)
theorem dL_law_338 : decode cL_law 338 = .ok (.iload_n 3, 1) := dk_29 (dk_at dksL_law_13 5 rfl rfl)
theorem dL_law_339 : decode cL_law 339 = .ok (.iconst 2, 1) := dk_5 (dk_at dksL_law_13 6 rfl rfl)
theorem dL_law_340 : decode cL_law 340 = .ok (.iadd, 1) := dk_96 (dk_at dksL_law_13 7 rfl rfl)
theorem dL_law_341 : decode cL_law 341 = .ok (.iaload, 1) := dk_46 (dk_at dksL_law_13 8 rfl rfl)
theorem dL_law_342 : decode cL_law 342 = .ok (.invokevirtual 49, 3) := dk_182 0 49 (dk_at dksL_law_13 9 rfl rfl)
theorem dL_law_345 : decode cL_law 345 = .ok (.if_icmp .eq 127, 3) := dk_159 0 127 (dk_at dksL_law_13 12 rfl rfl)
theorem dL_law_348 : decode cL_law 348 = .ok (.iconst 0, 1) := dk_3 (dk_at dksL_law_13 15 rfl rfl)
theorem dL_law_349 : decode cL_law 349 = .ok (.ireturn, 1) := dk_172 (dk_at dksL_law_13 16 rfl rfl)
theorem dL_law_350 : decode cL_law 350 = .ok (.aload_n 1, 1) := dk_43 (dk_at dksL_law_13 17 rfl rfl)
theorem dL_law_351 : decode cL_law 351 = .ok (.aload_n 0, 1) := dk_42 (dk_at dksL_law_13 18 rfl rfl)
theorem dL_law_352 : decode cL_law 352 = .ok (.iload_n 3, 1) := dk_29 (dk_at dksL_law_13 19 rfl rfl)
theorem dL_law_353 : decode cL_law 353 = .ok (.iconst 1, 1) := dk_4 (dk_at dksL_law_13 20 rfl rfl)
theorem dL_law_354 : decode cL_law 354 = .ok (.iadd, 1) := dk_96 (dk_at dksL_law_13 21 rfl rfl)
theorem dL_law_355 : decode cL_law 355 = .ok (.iaload, 1) := dk_46 (dk_at dksL_law_13 22 rfl rfl)
theorem dL_law_356 : decode cL_law 356 = .ok (.aload_n 0, 1) := dk_42 (dk_at dksL_law_13 23 rfl rfl)
theorem dL_law_357 : decode cL_law 357 = .ok (.iload_n 3, 1) := dk_29 (dk_at dksL_law_14 0 rfl rfl)
theorem dL_law_358 : decode cL_law 358 = .ok (.iconst 2, 1) := dk_5 (dk_at dksL_law_14 1 rfl rfl)
theorem dL_law_359 : decode cL_law 359 = .ok (.iadd, 1) := dk_96 (dk_at dksL_law_14 2 rfl rfl)
theorem dL_law_360 : decode cL_law 360 = .ok (.iaload, 1) := dk_46 (dk_at dksL_law_14 3 rfl rfl)
theorem dL_law_361 : decode cL_law 361 = .ok (.invokevirtual 50, 3) := dk_182 0 50 (dk_at dksL_law_14 4 rfl rfl)
theorem dL_law_364 : decode cL_law 364 = .ok (.aload_n 2, 1) := dk_44 (dk_at dksL_law_14 7 rfl rfl)
theorem dL_law_365 : decode cL_law 365 = .ok (.aload_n 0, 1) := dk_42 (dk_at dksL_law_14 8 rfl rfl)
theorem dL_law_366 : decode cL_law 366 = .ok (.iload_n 3, 1) := dk_29 (dk_at dksL_law_14 9 rfl rfl)
theorem dL_law_367 : decode cL_law 367 = .ok (.iconst 1, 1) := dk_4 (dk_at dksL_law_14 10 rfl rfl)
theorem dL_law_368 : decode cL_law 368 = .ok (.iadd, 1) := dk_96 (dk_at dksL_law_14 11 rfl rfl)
theorem dL_law_369 : decode cL_law 369 = .ok (.iaload, 1) := dk_46 (dk_at dksL_law_14 12 rfl rfl)
theorem dL_law_370 : decode cL_law 370 = .ok (.aload_n 0, 1) := dk_42 (dk_at dksL_law_14 13 rfl rfl)
theorem dL_law_371 : decode cL_law 371 = .ok (.iload_n 3, 1) := dk_29 (dk_at dksL_law_14 14 rfl rfl)
theorem dL_law_372 : decode cL_law 372 = .ok (.iconst 2, 1) := dk_5 (dk_at dksL_law_14 15 rfl rfl)
theorem dL_law_373 : decode cL_law 373 = .ok (.iadd, 1) := dk_96 (dk_at dksL_law_14 16 rfl rfl)
theorem dL_law_374 : decode cL_law 374 = .ok (.iaload, 1) := dk_46 (dk_at dksL_law_14 17 rfl rfl)
theorem dL_law_375 : decode cL_law 375 = .ok (.invokevirtual 53, 3) := dk_182 0 53 (dk_at dksL_law_14 18 rfl rfl)
theorem dL_law_378 : decode cL_law 378 = .ok (.if_icmp .eq 94, 3) := dk_159 0 94 (dk_at dksL_law_14 21 rfl rfl)
theorem dL_law_381 : decode cL_law 381 = .ok (.iconst 0, 1) := dk_3 (dk_at dksL_law_15 0 rfl rfl)
theorem dL_law_382 : decode cL_law 382 = .ok (.ireturn, 1) := dk_172 (dk_at dksL_law_15 1 rfl rfl)
theorem dL_law_383 : decode cL_law 383 = .ok (.aload_n 1, 1) := dk_43 (dk_at dksL_law_15 2 rfl rfl)
theorem dL_law_384 : decode cL_law 384 = .ok (.invokevirtual 54, 3) := dk_182 0 54 (dk_at dksL_law_15 3 rfl rfl)
theorem dL_law_387 : decode cL_law 387 = .ok (.aload_n 2, 1) := dk_44 (dk_at dksL_law_15 6 rfl rfl)
theorem dL_law_388 : decode cL_law 388 = .ok (.invokevirtual 57, 3) := dk_182 0 57 (dk_at dksL_law_15 7 rfl rfl)
theorem dL_law_391 : decode cL_law 391 = .ok (.if_icmp .eq 81, 3) := dk_159 0 81 (dk_at dksL_law_15 10 rfl rfl)
theorem dL_law_394 : decode cL_law 394 = .ok (.iconst 0, 1) := dk_3 (dk_at dksL_law_15 13 rfl rfl)
theorem dL_law_395 : decode cL_law 395 = .ok (.ireturn, 1) := dk_172 (dk_at dksL_law_15 14 rfl rfl)
theorem dL_law_396 : decode cL_law 396 = .ok (.aload_n 1, 1) := dk_43 (dk_at dksL_law_15 15 rfl rfl)
theorem dL_law_397 : decode cL_law 397 = .ok (.aload_n 0, 1) := dk_42 (dk_at dksL_law_15 16 rfl rfl)
theorem dL_law_398 : decode cL_law 398 = .ok (.iload_n 3, 1) := dk_29 (dk_at dksL_law_15 17 rfl rfl)
theorem dL_law_399 : decode cL_law 399 = .ok (.iconst 1, 1) := dk_4 (dk_at dksL_law_15 18 rfl rfl)
theorem dL_law_400 : decode cL_law 400 = .ok (.iadd, 1) := dk_96 (dk_at dksL_law_15 19 rfl rfl)
theorem dL_law_401 : decode cL_law 401 = .ok (.iaload, 1) := dk_46 (dk_at dksL_law_15 20 rfl rfl)
theorem dL_law_402 : decode cL_law 402 = .ok (.aload_n 0, 1) := dk_42 (dk_at dksL_law_15 21 rfl rfl)
theorem dL_law_403 : decode cL_law 403 = .ok (.iload_n 3, 1) := dk_29 (dk_at dksL_law_15 22 rfl rfl)
theorem dL_law_404 : decode cL_law 404 = .ok (.iconst 2, 1) := dk_5 (dk_at dksL_law_15 23 rfl rfl)
theorem dL_law_405 : decode cL_law 405 = .ok (.iadd, 1) := dk_96 (dk_at dksL_law_16 0 rfl rfl)
theorem dL_law_406 : decode cL_law 406 = .ok (.iaload, 1) := dk_46 (dk_at dksL_law_16 1 rfl rfl)
theorem dL_law_407 : decode cL_law 407 = .ok (.i2l, 1) := dk_133 (dk_at dksL_law_16 2 rfl rfl)
theorem dL_law_408 : decode cL_law 408 = .ok (.bipush 32, 2) := dk_16 32 (dk_at dksL_law_16 3 rfl rfl)
theorem dL_law_410 : decode cL_law 410 = .ok (.lshl, 1) := dk_121 (dk_at dksL_law_16 5 rfl rfl)
theorem dL_law_411 : decode cL_law 411 = .ok (.aload_n 0, 1) := dk_42 (dk_at dksL_law_16 6 rfl rfl)
theorem dL_law_412 : decode cL_law 412 = .ok (.iload_n 3, 1) := dk_29 (dk_at dksL_law_16 7 rfl rfl)
theorem dL_law_413 : decode cL_law 413 = .ok (.iconst 3, 1) := dk_6 (dk_at dksL_law_16 8 rfl rfl)
theorem dL_law_414 : decode cL_law 414 = .ok (.iadd, 1) := dk_96 (dk_at dksL_law_16 9 rfl rfl)
theorem dL_law_415 : decode cL_law 415 = .ok (.iaload, 1) := dk_46 (dk_at dksL_law_16 10 rfl rfl)
theorem dL_law_416 : decode cL_law 416 = .ok (.i2l, 1) := dk_133 (dk_at dksL_law_16 11 rfl rfl)
theorem dL_law_417 : decode cL_law 417 = .ok (.ldc2_w 58, 3) := dk_20 0 58 (dk_at dksL_law_16 12 rfl rfl)
theorem dL_law_420 : decode cL_law 420 = .ok (.land, 1) := dk_127 (dk_at dksL_law_16 15 rfl rfl)
theorem dL_law_421 : decode cL_law 421 = .ok (.lor, 1) := dk_129 (dk_at dksL_law_16 16 rfl rfl)
theorem dL_law_422 : decode cL_law 422 = .ok (.invokevirtual 60, 3) := dk_182 0 60 (dk_at dksL_law_16 17 rfl rfl)
theorem dL_law_425 : decode cL_law 425 = .ok (.aload_n 2, 1) := dk_44 (dk_at dksL_law_16 20 rfl rfl)
theorem dL_law_426 : decode cL_law 426 = .ok (.aload_n 0, 1) := dk_42 (dk_at dksL_law_16 21 rfl rfl)
theorem dL_law_427 : decode cL_law 427 = .ok (.iload_n 3, 1) := dk_29 (dk_at dksL_law_16 22 rfl rfl)
theorem dL_law_428 : decode cL_law 428 = .ok (.iconst 1, 1) := dk_4 (dk_at dksL_law_16 23 rfl rfl)
theorem dL_law_429 : decode cL_law 429 = .ok (.iadd, 1) := dk_96 (dk_at dksL_law_17 0 rfl rfl)
theorem dL_law_430 : decode cL_law 430 = .ok (.iaload, 1) := dk_46 (dk_at dksL_law_17 1 rfl rfl)
theorem dL_law_431 : decode cL_law 431 = .ok (.aload_n 0, 1) := dk_42 (dk_at dksL_law_17 2 rfl rfl)
theorem dL_law_432 : decode cL_law 432 = .ok (.iload_n 3, 1) := dk_29 (dk_at dksL_law_17 3 rfl rfl)
theorem dL_law_433 : decode cL_law 433 = .ok (.iconst 2, 1) := dk_5 (dk_at dksL_law_17 4 rfl rfl)
theorem dL_law_434 : decode cL_law 434 = .ok (.iadd, 1) := dk_96 (dk_at dksL_law_17 5 rfl rfl)
theorem dL_law_435 : decode cL_law 435 = .ok (.iaload, 1) := dk_46 (dk_at dksL_law_17 6 rfl rfl)
theorem dL_law_436 : decode cL_law 436 = .ok (.i2l, 1) := dk_133 (dk_at dksL_law_17 7 rfl rfl)
theorem dL_law_437 : decode cL_law 437 = .ok (.bipush 32, 2) := dk_16 32 (dk_at dksL_law_17 8 rfl rfl)
theorem dL_law_439 : decode cL_law 439 = .ok (.lshl, 1) := dk_121 (dk_at dksL_law_17 10 rfl rfl)
theorem dL_law_440 : decode cL_law 440 = .ok (.aload_n 0, 1) := dk_42 (dk_at dksL_law_17 11 rfl rfl)
theorem dL_law_441 : decode cL_law 441 = .ok (.iload_n 3, 1) := dk_29 (dk_at dksL_law_17 12 rfl rfl)
theorem dL_law_442 : decode cL_law 442 = .ok (.iconst 3, 1) := dk_6 (dk_at dksL_law_17 13 rfl rfl)
theorem dL_law_443 : decode cL_law 443 = .ok (.iadd, 1) := dk_96 (dk_at dksL_law_17 14 rfl rfl)
theorem dL_law_444 : decode cL_law 444 = .ok (.iaload, 1) := dk_46 (dk_at dksL_law_17 15 rfl rfl)
theorem dL_law_445 : decode cL_law 445 = .ok (.i2l, 1) := dk_133 (dk_at dksL_law_17 16 rfl rfl)
theorem dL_law_446 : decode cL_law 446 = .ok (.ldc2_w 58, 3) := dk_20 0 58 (dk_at dksL_law_17 17 rfl rfl)
theorem dL_law_449 : decode cL_law 449 = .ok (.land, 1) := dk_127 (dk_at dksL_law_17 20 rfl rfl)
theorem dL_law_450 : decode cL_law 450 = .ok (.lor, 1) := dk_129 (dk_at dksL_law_17 21 rfl rfl)
theorem dL_law_451 : decode cL_law 451 = .ok (.invokevirtual 64, 3) := dk_182 0 64 (dk_at dksL_law_18 0 rfl rfl)
theorem dL_law_454 : decode cL_law 454 = .ok (.if_icmp .eq 18, 3) := dk_159 0 18 (dk_at dksL_law_18 3 rfl rfl)
theorem dL_law_457 : decode cL_law 457 = .ok (.iconst 0, 1) := dk_3 (dk_at dksL_law_18 6 rfl rfl)
theorem dL_law_458 : decode cL_law 458 = .ok (.ireturn, 1) := dk_172 (dk_at dksL_law_18 7 rfl rfl)
theorem dL_law_459 : decode cL_law 459 = .ok (.aload_n 1, 1) := dk_43 (dk_at dksL_law_18 8 rfl rfl)
theorem dL_law_460 : decode cL_law 460 = .ok (.invokevirtual 65, 3) := dk_182 0 65 (dk_at dksL_law_18 9 rfl rfl)
theorem dL_law_463 : decode cL_law 463 = .ok (.aload_n 2, 1) := dk_44 (dk_at dksL_law_18 12 rfl rfl)
theorem dL_law_464 : decode cL_law 464 = .ok (.invokevirtual 68, 3) := dk_182 0 68 (dk_at dksL_law_18 13 rfl rfl)
theorem dL_law_467 : decode cL_law 467 = .ok (.if_icmp .eq 5, 3) := dk_159 0 5 (dk_at dksL_law_18 16 rfl rfl)
theorem dL_law_470 : decode cL_law 470 = .ok (.iconst 0, 1) := dk_3 (dk_at dksL_law_18 19 rfl rfl)
theorem dL_law_471 : decode cL_law 471 = .ok (.ireturn, 1) := dk_172 (dk_at dksL_law_18 20 rfl rfl)
theorem dL_law_472 : decode cL_law 472 = .ok (.iinc 3 6, 3) := dk_132 3 6 (dk_at dksL_law_18 21 rfl rfl)
theorem dL_law_475 : decode cL_law 475 = .ok (.goto (-457), 3) := dk_167 254 55 (dk_at dksL_law_19 0 rfl rfl)
theorem dL_law_478 : decode cL_law 478 = .ok (.iconst 1, 1) := dk_4 (dk_at dksL_law_19 3 rfl rfl)
theorem dL_law_479 : decode cL_law 479 = .ok (.ireturn, 1) := dk_172 (dk_at dksL_law_19 4 rfl rfl)

/-! ThrowRules -/
set_option maxRecDepth 100000
def RX0 : String := "ThrowRules"
def TX0 : u_T := fun k => match k with
  | 0 => ("ThrowRules", "tape", "[B", true)
  | 1 => ("ThrowRules", "taped", "I", false)
  | 2 => ("ThrowRules", "reader", "LThrowRules$Reader;", true)
  | 3 => ("ThrowRules", "unit", "LThrowRules$Unit;", false)
  | _ => ("ThrowRules", "walk", "LThrowRules$Walk;", true)
def tyX0 : Nat → FieldType := fun k => match k with
  | 0 => .array .byte
  | 1 => .int
  | 2 => .object "ThrowRules$Reader"
  | 3 => .object "ThrowRules$Unit"
  | _ => .object "ThrowRules$Walk"
abbrev wsX00 : List Cond := u_ws RX0 TX0 5
theorem nmX0 : ∀ a, a < 5 → ∀ b, b < 5 → a ≠ b → (TX0 a).2.1 ≠ (TX0 b).2.1 := by decide +kernel
theorem tyX0_ok : ∀ k, k < 5 → parseFieldDescriptor (TX0 k).2.2.1 = some (tyX0 k) := by decide +kernel
abbrev cX0_init : ByteArray := prog_1_method_1_code
def yX0_init : MethodName := ⟨RX0, "<init>", "()V"⟩
def dkwX0_init_1 : List UInt8 := [42, 187, 0, 20, 89, 183, 0, 22, 181, 0, 23, 42, 187, 0, 27, 89, 183, 0, 29, 181, 0, 30, 177]
abbrev dktX0_init_1 : List UInt8 := dkwX0_init_1 ++ []
def dkwX0_init_0 : List UInt8 := [42, 183, 0, 1, 42, 17, 7, 208, 188, 8, 181, 0, 9, 42, 187, 0, 13, 89, 183, 0, 15, 181, 0, 16]
abbrev dktX0_init_0 : List UInt8 := dkwX0_init_0 ++ dktX0_init_1
theorem dksX0_init_0 : cX0_init.data.toList.drop 0 = dktX0_init_0 := by decide +kernel
theorem dksX0_init_1 : cX0_init.data.toList.drop 24 = dktX0_init_1 := dk_seg dksX0_init_0 24 rfl rfl
theorem dX0_init_0 : decode cX0_init 0 = .ok (.aload_n 0, 1) := dk_42 (dk_at dksX0_init_0 0 rfl rfl)
theorem dX0_init_1 : decode cX0_init 1 = .ok (.invokespecial 1, 3) := dk_183 0 1 (dk_at dksX0_init_0 1 rfl rfl)
theorem dX0_init_4 : decode cX0_init 4 = .ok (.aload_n 0, 1) := dk_42 (dk_at dksX0_init_0 4 rfl rfl)
theorem dX0_init_5 : decode cX0_init 5 = .ok (.sipush 2000, 3) := dk_17 7 208 (dk_at dksX0_init_0 5 rfl rfl)
theorem dX0_init_8 : decode cX0_init 8 = .ok (.newarray .byte, 2) := dk_188_8 (dk_at dksX0_init_0 8 rfl rfl)
theorem dX0_init_10 : decode cX0_init 10 = .ok (.putfield 9, 3) := dk_181 0 9 (dk_at dksX0_init_0 10 rfl rfl)
theorem dX0_init_13 : decode cX0_init 13 = .ok (.aload_n 0, 1) := dk_42 (dk_at dksX0_init_0 13 rfl rfl)
theorem dX0_init_14 : decode cX0_init 14 = .ok (.new 13, 3) := dk_187 0 13 (dk_at dksX0_init_0 14 rfl rfl)
theorem dX0_init_17 : decode cX0_init 17 = .ok (.dup, 1) := dk_89 (dk_at dksX0_init_0 17 rfl rfl)
theorem dX0_init_18 : decode cX0_init 18 = .ok (.invokespecial 15, 3) := dk_183 0 15 (dk_at dksX0_init_0 18 rfl rfl)
theorem dX0_init_21 : decode cX0_init 21 = .ok (.putfield 16, 3) := dk_181 0 16 (dk_at dksX0_init_0 21 rfl rfl)
theorem dX0_init_24 : decode cX0_init 24 = .ok (.aload_n 0, 1) := dk_42 (dk_at dksX0_init_1 0 rfl rfl)
theorem dX0_init_25 : decode cX0_init 25 = .ok (.new 20, 3) := dk_187 0 20 (dk_at dksX0_init_1 1 rfl rfl)
theorem dX0_init_28 : decode cX0_init 28 = .ok (.dup, 1) := dk_89 (dk_at dksX0_init_1 4 rfl rfl)
theorem dX0_init_29 : decode cX0_init 29 = .ok (.invokespecial 22, 3) := dk_183 0 22 (dk_at dksX0_init_1 5 rfl rfl)
theorem dX0_init_32 : decode cX0_init 32 = .ok (.putfield 23, 3) := dk_181 0 23 (dk_at dksX0_init_1 8 rfl rfl)
theorem dX0_init_35 : decode cX0_init 35 = .ok (.aload_n 0, 1) := dk_42 (dk_at dksX0_init_1 11 rfl rfl)
theorem dX0_init_36 : decode cX0_init 36 = .ok (.new 27, 3) := dk_187 0 27 (dk_at dksX0_init_1 12 rfl rfl)
theorem dX0_init_39 : decode cX0_init 39 = .ok (.dup, 1) := dk_89 (dk_at dksX0_init_1 15 rfl rfl)
theorem dX0_init_40 : decode cX0_init 40 = .ok (.invokespecial 29, 3) := dk_183 0 29 (dk_at dksX0_init_1 16 rfl rfl)
theorem dX0_init_43 : decode cX0_init 43 = .ok (.putfield 30, 3) := dk_181 0 30 (dk_at dksX0_init_1 19 rfl rfl)
theorem dX0_init_46 : decode cX0_init 46 = .ok (.return_, 1) := dk_177 (dk_at dksX0_init_1 22 rfl rfl)
abbrev cX0_feed : ByteArray := prog_1_method_3_code
def yX0_feed : MethodName := ⟨RX0, "feed", "(IIIII)I"⟩
def dkwX0_feed_2 : List UInt8 := [172]
abbrev dktX0_feed_2 : List UInt8 := dkwX0_feed_2 ++ []
def dkwX0_feed_1 : List UInt8 := [182, 0, 38, 42, 29, 182, 0, 38, 42, 21, 4, 182, 0, 38, 42, 21, 5, 182, 0, 38, 42, 180, 0, 34]
abbrev dktX0_feed_1 : List UInt8 := dkwX0_feed_1 ++ dktX0_feed_2
def dkwX0_feed_0 : List UInt8 := [42, 180, 0, 34, 16, 20, 96, 17, 7, 208, 164, 0, 6, 16, 253, 172, 42, 27, 182, 0, 38, 42, 28]
abbrev dktX0_feed_0 : List UInt8 := dkwX0_feed_0 ++ dktX0_feed_1
theorem dksX0_feed_0 : cX0_feed.data.toList.drop 0 = dktX0_feed_0 := by decide +kernel
theorem dksX0_feed_1 : cX0_feed.data.toList.drop 23 = dktX0_feed_1 := dk_seg dksX0_feed_0 23 rfl rfl
theorem dksX0_feed_2 : cX0_feed.data.toList.drop 47 = dktX0_feed_2 := dk_seg dksX0_feed_1 24 rfl rfl
theorem dX0_feed_0 : decode cX0_feed 0 = .ok (.aload_n 0, 1) := dk_42 (dk_at dksX0_feed_0 0 rfl rfl)
theorem dX0_feed_1 : decode cX0_feed 1 = .ok (.getfield 34, 3) := dk_180 0 34 (dk_at dksX0_feed_0 1 rfl rfl)
theorem dX0_feed_4 : decode cX0_feed 4 = .ok (.bipush 20, 2) := dk_16 20 (dk_at dksX0_feed_0 4 rfl rfl)
theorem dX0_feed_6 : decode cX0_feed 6 = .ok (.iadd, 1) := dk_96 (dk_at dksX0_feed_0 6 rfl rfl)
theorem dX0_feed_7 : decode cX0_feed 7 = .ok (.sipush 2000, 3) := dk_17 7 208 (dk_at dksX0_feed_0 7 rfl rfl)
theorem dX0_feed_10 : decode cX0_feed 10 = .ok (.if_icmp .le 6, 3) := dk_164 0 6 (dk_at dksX0_feed_0 10 rfl rfl)
theorem dX0_feed_13 : decode cX0_feed 13 = .ok (.bipush (-3), 2) := dk_16 253 (dk_at dksX0_feed_0 13 rfl rfl)
theorem dX0_feed_15 : decode cX0_feed 15 = .ok (.ireturn, 1) := dk_172 (dk_at dksX0_feed_0 15 rfl rfl)
theorem dX0_feed_16 : decode cX0_feed 16 = .ok (.aload_n 0, 1) := dk_42 (dk_at dksX0_feed_0 16 rfl rfl)
theorem dX0_feed_17 : decode cX0_feed 17 = .ok (.iload_n 1, 1) := dk_27 (dk_at dksX0_feed_0 17 rfl rfl)
theorem dX0_feed_18 : decode cX0_feed 18 = .ok (.invokevirtual 38, 3) := dk_182 0 38 (dk_at dksX0_feed_0 18 rfl rfl)
theorem dX0_feed_21 : decode cX0_feed 21 = .ok (.aload_n 0, 1) := dk_42 (dk_at dksX0_feed_0 21 rfl rfl)
theorem dX0_feed_22 : decode cX0_feed 22 = .ok (.iload_n 2, 1) := dk_28 (dk_at dksX0_feed_0 22 rfl rfl)
theorem dX0_feed_23 : decode cX0_feed 23 = .ok (.invokevirtual 38, 3) := dk_182 0 38 (dk_at dksX0_feed_1 0 rfl rfl)
theorem dX0_feed_26 : decode cX0_feed 26 = .ok (.aload_n 0, 1) := dk_42 (dk_at dksX0_feed_1 3 rfl rfl)
theorem dX0_feed_27 : decode cX0_feed 27 = .ok (.iload_n 3, 1) := dk_29 (dk_at dksX0_feed_1 4 rfl rfl)
theorem dX0_feed_28 : decode cX0_feed 28 = .ok (.invokevirtual 38, 3) := dk_182 0 38 (dk_at dksX0_feed_1 5 rfl rfl)
theorem dX0_feed_31 : decode cX0_feed 31 = .ok (.aload_n 0, 1) := dk_42 (dk_at dksX0_feed_1 8 rfl rfl)
theorem dX0_feed_32 : decode cX0_feed 32 = .ok (.iload 4, 2) := dk_21 4 (dk_at dksX0_feed_1 9 rfl rfl)
theorem dX0_feed_34 : decode cX0_feed 34 = .ok (.invokevirtual 38, 3) := dk_182 0 38 (dk_at dksX0_feed_1 11 rfl rfl)
theorem dX0_feed_37 : decode cX0_feed 37 = .ok (.aload_n 0, 1) := dk_42 (dk_at dksX0_feed_1 14 rfl rfl)
theorem dX0_feed_38 : decode cX0_feed 38 = .ok (.iload 5, 2) := dk_21 5 (dk_at dksX0_feed_1 15 rfl rfl)
theorem dX0_feed_40 : decode cX0_feed 40 = .ok (.invokevirtual 38, 3) := dk_182 0 38 (dk_at dksX0_feed_1 17 rfl rfl)
theorem dX0_feed_43 : decode cX0_feed 43 = .ok (.aload_n 0, 1) := dk_42 (dk_at dksX0_feed_1 20 rfl rfl)
theorem dX0_feed_44 : decode cX0_feed 44 = .ok (.getfield 34, 3) := dk_180 0 34 (dk_at dksX0_feed_1 21 rfl rfl)
theorem dX0_feed_47 : decode cX0_feed 47 = .ok (.ireturn, 1) := dk_172 (dk_at dksX0_feed_2 0 rfl rfl)
abbrev cX0_put : ByteArray := prog_1_method_4_code
def yX0_put : MethodName := ⟨RX0, "put", "(I)V"⟩
def dkwX0_put_1 : List UInt8 := [180, 0, 34, 4, 96, 181, 0, 34, 132, 2, 248, 167, 255, 226, 177]
abbrev dktX0_put_1 : List UInt8 := dkwX0_put_1 ++ []
def dkwX0_put_0 : List UInt8 := [16, 24, 61, 28, 155, 0, 32, 42, 180, 0, 9, 42, 180, 0, 34, 27, 28, 122, 145, 84, 42, 89]
abbrev dktX0_put_0 : List UInt8 := dkwX0_put_0 ++ dktX0_put_1
theorem dksX0_put_0 : cX0_put.data.toList.drop 0 = dktX0_put_0 := by decide +kernel
theorem dksX0_put_1 : cX0_put.data.toList.drop 22 = dktX0_put_1 := dk_seg dksX0_put_0 22 rfl rfl
theorem dX0_put_0 : decode cX0_put 0 = .ok (.bipush 24, 2) := dk_16 24 (dk_at dksX0_put_0 0 rfl rfl)
theorem dX0_put_2 : decode cX0_put 2 = .ok (.istore_n 2, 1) := dk_61 (dk_at dksX0_put_0 2 rfl rfl)
theorem dX0_put_3 : decode cX0_put 3 = .ok (.iload_n 2, 1) := dk_28 (dk_at dksX0_put_0 3 rfl rfl)
theorem dX0_put_4 : decode cX0_put 4 = .ok (.ifCond .lt 32, 3) := dk_155 0 32 (dk_at dksX0_put_0 4 rfl rfl)
theorem dX0_put_7 : decode cX0_put 7 = .ok (.aload_n 0, 1) := dk_42 (dk_at dksX0_put_0 7 rfl rfl)
theorem dX0_put_8 : decode cX0_put 8 = .ok (.getfield 9, 3) := dk_180 0 9 (dk_at dksX0_put_0 8 rfl rfl)
theorem dX0_put_11 : decode cX0_put 11 = .ok (.aload_n 0, 1) := dk_42 (dk_at dksX0_put_0 11 rfl rfl)
theorem dX0_put_12 : decode cX0_put 12 = .ok (.getfield 34, 3) := dk_180 0 34 (dk_at dksX0_put_0 12 rfl rfl)
theorem dX0_put_15 : decode cX0_put 15 = .ok (.iload_n 1, 1) := dk_27 (dk_at dksX0_put_0 15 rfl rfl)
theorem dX0_put_16 : decode cX0_put 16 = .ok (.iload_n 2, 1) := dk_28 (dk_at dksX0_put_0 16 rfl rfl)
theorem dX0_put_17 : decode cX0_put 17 = .ok (.ishr, 1) := dk_122 (dk_at dksX0_put_0 17 rfl rfl)
theorem dX0_put_18 : decode cX0_put 18 = .ok (.i2b, 1) := dk_145 (dk_at dksX0_put_0 18 rfl rfl)
theorem dX0_put_19 : decode cX0_put 19 = .ok (.bastore, 1) := dk_84 (dk_at dksX0_put_0 19 rfl rfl)
theorem dX0_put_20 : decode cX0_put 20 = .ok (.aload_n 0, 1) := dk_42 (dk_at dksX0_put_0 20 rfl rfl)
theorem dX0_put_21 : decode cX0_put 21 = .ok (.dup, 1) := dk_89 (dk_at dksX0_put_0 21 rfl rfl)
theorem dX0_put_22 : decode cX0_put 22 = .ok (.getfield 34, 3) := dk_180 0 34 (dk_at dksX0_put_1 0 rfl rfl)
theorem dX0_put_25 : decode cX0_put 25 = .ok (.iconst 1, 1) := dk_4 (dk_at dksX0_put_1 3 rfl rfl)
theorem dX0_put_26 : decode cX0_put 26 = .ok (.iadd, 1) := dk_96 (dk_at dksX0_put_1 4 rfl rfl)
theorem dX0_put_27 : decode cX0_put 27 = .ok (.putfield 34, 3) := dk_181 0 34 (dk_at dksX0_put_1 5 rfl rfl)
theorem dX0_put_30 : decode cX0_put 30 = .ok (.iinc 2 (-8), 3) := dk_132 2 248 (dk_at dksX0_put_1 8 rfl rfl)
theorem dX0_put_33 : decode cX0_put 33 = .ok (.goto (-30), 3) := dk_167 255 226 (dk_at dksX0_put_1 11 rfl rfl)
theorem dX0_put_36 : decode cX0_put 36 = .ok (.return_, 1) := dk_177 (dk_at dksX0_put_1 14 rfl rfl)
abbrev cX0_cut : ByteArray := prog_1_method_5_code
def yX0_cut : MethodName := ⟨RX0, "cut", "(I)I"⟩
def dkwX0_cut_1 : List UInt8 := [181, 0, 34, 28, 172]
abbrev dktX0_cut_1 : List UInt8 := dkwX0_cut_1 ++ []
def dkwX0_cut_0 : List UInt8 := [27, 3, 42, 180, 0, 34, 184, 0, 42, 154, 0, 6, 16, 253, 172, 42, 180, 0, 34, 27, 100, 61, 42, 27]
abbrev dktX0_cut_0 : List UInt8 := dkwX0_cut_0 ++ dktX0_cut_1
theorem dksX0_cut_0 : cX0_cut.data.toList.drop 0 = dktX0_cut_0 := by decide +kernel
theorem dksX0_cut_1 : cX0_cut.data.toList.drop 24 = dktX0_cut_1 := dk_seg dksX0_cut_0 24 rfl rfl
theorem dX0_cut_0 : decode cX0_cut 0 = .ok (.iload_n 1, 1) := dk_27 (dk_at dksX0_cut_0 0 rfl rfl)
theorem dX0_cut_1 : decode cX0_cut 1 = .ok (.iconst 0, 1) := dk_3 (dk_at dksX0_cut_0 1 rfl rfl)
theorem dX0_cut_2 : decode cX0_cut 2 = .ok (.aload_n 0, 1) := dk_42 (dk_at dksX0_cut_0 2 rfl rfl)
theorem dX0_cut_3 : decode cX0_cut 3 = .ok (.getfield 34, 3) := dk_180 0 34 (dk_at dksX0_cut_0 3 rfl rfl)
theorem dX0_cut_6 : decode cX0_cut 6 = .ok (.invokestatic 42, 3) := dk_184 0 42 (dk_at dksX0_cut_0 6 rfl rfl)
theorem dX0_cut_9 : decode cX0_cut 9 = .ok (.ifCond .ne 6, 3) := dk_154 0 6 (dk_at dksX0_cut_0 9 rfl rfl)
theorem dX0_cut_12 : decode cX0_cut 12 = .ok (.bipush (-3), 2) := dk_16 253 (dk_at dksX0_cut_0 12 rfl rfl)
theorem dX0_cut_14 : decode cX0_cut 14 = .ok (.ireturn, 1) := dk_172 (dk_at dksX0_cut_0 14 rfl rfl)
theorem dX0_cut_15 : decode cX0_cut 15 = .ok (.aload_n 0, 1) := dk_42 (dk_at dksX0_cut_0 15 rfl rfl)
theorem dX0_cut_16 : decode cX0_cut 16 = .ok (.getfield 34, 3) := dk_180 0 34 (dk_at dksX0_cut_0 16 rfl rfl)
theorem dX0_cut_19 : decode cX0_cut 19 = .ok (.iload_n 1, 1) := dk_27 (dk_at dksX0_cut_0 19 rfl rfl)
theorem dX0_cut_20 : decode cX0_cut 20 = .ok (.isub, 1) := dk_100 (dk_at dksX0_cut_0 20 rfl rfl)
theorem dX0_cut_21 : decode cX0_cut 21 = .ok (.istore_n 2, 1) := dk_61 (dk_at dksX0_cut_0 21 rfl rfl)
theorem dX0_cut_22 : decode cX0_cut 22 = .ok (.aload_n 0, 1) := dk_42 (dk_at dksX0_cut_0 22 rfl rfl)
theorem dX0_cut_23 : decode cX0_cut 23 = .ok (.iload_n 1, 1) := dk_27 (dk_at dksX0_cut_0 23 rfl rfl)
theorem dX0_cut_24 : decode cX0_cut 24 = .ok (.putfield 34, 3) := dk_181 0 34 (dk_at dksX0_cut_1 0 rfl rfl)
theorem dX0_cut_27 : decode cX0_cut 27 = .ok (.iload_n 2, 1) := dk_28 (dk_at dksX0_cut_1 3 rfl rfl)
theorem dX0_cut_28 : decode cX0_cut 28 = .ok (.ireturn, 1) := dk_172 (dk_at dksX0_cut_1 4 rfl rfl)
abbrev cX0_isIn : ByteArray := prog_1_method_2_code
def yX0_isIn : MethodName := ⟨RX0, "isIn", "(III)Z"⟩
def dkwX0_isIn_0 : List UInt8 := [26, 27, 161, 0, 12, 26, 28, 163, 0, 7, 4, 167, 0, 4, 3, 172]
abbrev dktX0_isIn_0 : List UInt8 := dkwX0_isIn_0 ++ []
theorem dksX0_isIn_0 : cX0_isIn.data.toList.drop 0 = dktX0_isIn_0 := by decide +kernel
theorem dX0_isIn_0 : decode cX0_isIn 0 = .ok (.iload_n 0, 1) := dk_26 (dk_at dksX0_isIn_0 0 rfl rfl)
theorem dX0_isIn_1 : decode cX0_isIn 1 = .ok (.iload_n 1, 1) := dk_27 (dk_at dksX0_isIn_0 1 rfl rfl)
theorem dX0_isIn_2 : decode cX0_isIn 2 = .ok (.if_icmp .lt 12, 3) := dk_161 0 12 (dk_at dksX0_isIn_0 2 rfl rfl)
theorem dX0_isIn_5 : decode cX0_isIn 5 = .ok (.iload_n 0, 1) := dk_26 (dk_at dksX0_isIn_0 5 rfl rfl)
theorem dX0_isIn_6 : decode cX0_isIn 6 = .ok (.iload_n 2, 1) := dk_28 (dk_at dksX0_isIn_0 6 rfl rfl)
theorem dX0_isIn_7 : decode cX0_isIn 7 = .ok (.if_icmp .gt 7, 3) := dk_163 0 7 (dk_at dksX0_isIn_0 7 rfl rfl)
theorem dX0_isIn_10 : decode cX0_isIn 10 = .ok (.iconst 1, 1) := dk_4 (dk_at dksX0_isIn_0 10 rfl rfl)
theorem dX0_isIn_11 : decode cX0_isIn 11 = .ok (.goto 4, 3) := dk_167 0 4 (dk_at dksX0_isIn_0 11 rfl rfl)
theorem dX0_isIn_14 : decode cX0_isIn 14 = .ok (.iconst 0, 1) := dk_3 (dk_at dksX0_isIn_0 14 rfl rfl)
theorem dX0_isIn_15 : decode cX0_isIn 15 = .ok (.ireturn, 1) := dk_172 (dk_at dksX0_isIn_0 15 rfl rfl)
abbrev cX0_read : ByteArray := prog_1_method_6_code
def yX0_read : MethodName := ⟨RX0, "read", "()I"⟩
def dkwX0_read_2 : List UInt8 := [182, 0, 59, 172]
abbrev dktX0_read_2 : List UInt8 := dkwX0_read_2 ++ []
def dkwX0_read_1 : List UInt8 := [181, 0, 23, 167, 0, 12, 77, 16, 246, 44, 180, 0, 52, 100, 172, 42, 180, 0, 23, 180, 0, 55]
abbrev dktX0_read_1 : List UInt8 := dkwX0_read_1 ++ dktX0_read_2
def dkwX0_read_0 : List UInt8 := [42, 180, 0, 34, 60, 42, 3, 181, 0, 34, 42, 42, 180, 0, 16, 42, 180, 0, 9, 27, 182, 0, 46]
abbrev dktX0_read_0 : List UInt8 := dkwX0_read_0 ++ dktX0_read_1
theorem dksX0_read_0 : cX0_read.data.toList.drop 0 = dktX0_read_0 := by decide +kernel
theorem dksX0_read_1 : cX0_read.data.toList.drop 23 = dktX0_read_1 := dk_seg dksX0_read_0 23 rfl rfl
theorem dksX0_read_2 : cX0_read.data.toList.drop 45 = dktX0_read_2 := dk_seg dksX0_read_1 22 rfl rfl
theorem dX0_read_0 : decode cX0_read 0 = .ok (.aload_n 0, 1) := dk_42 (dk_at dksX0_read_0 0 rfl rfl)
theorem dX0_read_1 : decode cX0_read 1 = .ok (.getfield 34, 3) := dk_180 0 34 (dk_at dksX0_read_0 1 rfl rfl)
theorem dX0_read_4 : decode cX0_read 4 = .ok (.istore_n 1, 1) := dk_60 (dk_at dksX0_read_0 4 rfl rfl)
theorem dX0_read_5 : decode cX0_read 5 = .ok (.aload_n 0, 1) := dk_42 (dk_at dksX0_read_0 5 rfl rfl)
theorem dX0_read_6 : decode cX0_read 6 = .ok (.iconst 0, 1) := dk_3 (dk_at dksX0_read_0 6 rfl rfl)
theorem dX0_read_7 : decode cX0_read 7 = .ok (.putfield 34, 3) := dk_181 0 34 (dk_at dksX0_read_0 7 rfl rfl)
theorem dX0_read_10 : decode cX0_read 10 = .ok (.aload_n 0, 1) := dk_42 (dk_at dksX0_read_0 10 rfl rfl)
theorem dX0_read_11 : decode cX0_read 11 = .ok (.aload_n 0, 1) := dk_42 (dk_at dksX0_read_0 11 rfl rfl)
theorem dX0_read_12 : decode cX0_read 12 = .ok (.getfield 16, 3) := dk_180 0 16 (dk_at dksX0_read_0 12 rfl rfl)
theorem dX0_read_15 : decode cX0_read 15 = .ok (.aload_n 0, 1) := dk_42 (dk_at dksX0_read_0 15 rfl rfl)
theorem dX0_read_16 : decode cX0_read 16 = .ok (.getfield 9, 3) := dk_180 0 9 (dk_at dksX0_read_0 16 rfl rfl)
theorem dX0_read_19 : decode cX0_read 19 = .ok (.iload_n 1, 1) := dk_27 (dk_at dksX0_read_0 19 rfl rfl)
theorem dX0_read_20 : decode cX0_read 20 = .ok (.invokevirtual 46, 3) := dk_182 0 46 (dk_at dksX0_read_0 20 rfl rfl)
theorem dX0_read_23 : decode cX0_read 23 = .ok (.putfield 23, 3) := dk_181 0 23 (dk_at dksX0_read_1 0 rfl rfl)
theorem dX0_read_26 : decode cX0_read 26 = .ok (.goto 12, 3) := dk_167 0 12 (dk_at dksX0_read_1 3 rfl rfl)
theorem dX0_read_29 : decode cX0_read 29 = .ok (.astore_n 2, 1) := dk_77 (dk_at dksX0_read_1 6 rfl rfl)
theorem dX0_read_30 : decode cX0_read 30 = .ok (.bipush (-10), 2) := dk_16 246 (dk_at dksX0_read_1 7 rfl rfl)
theorem dX0_read_32 : decode cX0_read 32 = .ok (.aload_n 2, 1) := dk_44 (dk_at dksX0_read_1 9 rfl rfl)
theorem dX0_read_33 : decode cX0_read 33 = .ok (.getfield 52, 3) := dk_180 0 52 (dk_at dksX0_read_1 10 rfl rfl)
theorem dX0_read_36 : decode cX0_read 36 = .ok (.isub, 1) := dk_100 (dk_at dksX0_read_1 13 rfl rfl)
theorem dX0_read_37 : decode cX0_read 37 = .ok (.ireturn, 1) := dk_172 (dk_at dksX0_read_1 14 rfl rfl)
theorem dX0_read_38 : decode cX0_read 38 = .ok (.aload_n 0, 1) := dk_42 (dk_at dksX0_read_1 15 rfl rfl)
theorem dX0_read_39 : decode cX0_read 39 = .ok (.getfield 23, 3) := dk_180 0 23 (dk_at dksX0_read_1 16 rfl rfl)
theorem dX0_read_42 : decode cX0_read 42 = .ok (.getfield 55, 3) := dk_180 0 55 (dk_at dksX0_read_1 19 rfl rfl)
theorem dX0_read_45 : decode cX0_read 45 = .ok (.invokevirtual 59, 3) := dk_182 0 59 (dk_at dksX0_read_2 0 rfl rfl)
theorem dX0_read_48 : decode cX0_read 48 = .ok (.ireturn, 1) := dk_172 (dk_at dksX0_read_2 3 rfl rfl)
abbrev cX0_told : ByteArray := prog_1_method_7_code
def yX0_told : MethodName := ⟨RX0, "told", "(I)I"⟩
def dkwX0_told_4 : List UInt8 := [180, 0, 34, 172, 16, 253, 172]
abbrev dktX0_told_4 : List UInt8 := dkwX0_told_4 ++ []
def dkwX0_told_3 : List UInt8 := [180, 0, 23, 180, 0, 68, 182, 0, 59, 172, 42, 180, 0, 23, 180, 0, 71, 182, 0, 59, 172, 42]
abbrev dktX0_told_3 : List UInt8 := dkwX0_told_3 ++ dktX0_told_4
def dkwX0_told_2 : List UInt8 := [42, 180, 0, 23, 180, 0, 65, 182, 0, 59, 172, 42, 180, 0, 23, 180, 0, 55, 182, 0, 59, 172, 42]
abbrev dktX0_told_2 : List UInt8 := dkwX0_told_2 ++ dktX0_told_3
def dkwX0_told_1 : List UInt8 := [170, 0, 0, 0, 0, 0, 84, 0, 0, 0, 0, 0, 0, 0, 4, 0, 0, 0, 35, 0, 0, 0, 46, 0, 0, 0, 57, 0, 0, 0, 68, 0, 0, 0, 79]
abbrev dktX0_told_1 : List UInt8 := dkwX0_told_1 ++ dktX0_told_2
def dkwX0_told_0 : List UInt8 := [27]
abbrev dktX0_told_0 : List UInt8 := dkwX0_told_0 ++ dktX0_told_1
theorem dksX0_told_0 : cX0_told.data.toList.drop 0 = dktX0_told_0 := by decide +kernel
theorem dksX0_told_1 : cX0_told.data.toList.drop 1 = dktX0_told_1 := dk_seg dksX0_told_0 1 rfl rfl
theorem dksX0_told_2 : cX0_told.data.toList.drop 36 = dktX0_told_2 := dk_seg dksX0_told_1 35 rfl rfl
theorem dksX0_told_3 : cX0_told.data.toList.drop 59 = dktX0_told_3 := dk_seg dksX0_told_2 23 rfl rfl
theorem dksX0_told_4 : cX0_told.data.toList.drop 81 = dktX0_told_4 := dk_seg dksX0_told_3 22 rfl rfl
theorem dX0_told_0 : decode cX0_told 0 = .ok (.iload_n 1, 1) := dk_27 (dk_at dksX0_told_0 0 rfl rfl)
theorem dX0_told_1 : decode cX0_told 1 = .ok (.tableswitch 84 0 4 #[35, 46, 57, 68, 79], 35) := by decide +kernel
theorem dX0_told_36 : decode cX0_told 36 = .ok (.aload_n 0, 1) := dk_42 (dk_at dksX0_told_2 0 rfl rfl)
theorem dX0_told_37 : decode cX0_told 37 = .ok (.getfield 23, 3) := dk_180 0 23 (dk_at dksX0_told_2 1 rfl rfl)
theorem dX0_told_40 : decode cX0_told 40 = .ok (.getfield 65, 3) := dk_180 0 65 (dk_at dksX0_told_2 4 rfl rfl)
theorem dX0_told_43 : decode cX0_told 43 = .ok (.invokevirtual 59, 3) := dk_182 0 59 (dk_at dksX0_told_2 7 rfl rfl)
theorem dX0_told_46 : decode cX0_told 46 = .ok (.ireturn, 1) := dk_172 (dk_at dksX0_told_2 10 rfl rfl)
theorem dX0_told_47 : decode cX0_told 47 = .ok (.aload_n 0, 1) := dk_42 (dk_at dksX0_told_2 11 rfl rfl)
theorem dX0_told_48 : decode cX0_told 48 = .ok (.getfield 23, 3) := dk_180 0 23 (dk_at dksX0_told_2 12 rfl rfl)
theorem dX0_told_51 : decode cX0_told 51 = .ok (.getfield 55, 3) := dk_180 0 55 (dk_at dksX0_told_2 15 rfl rfl)
theorem dX0_told_54 : decode cX0_told 54 = .ok (.invokevirtual 59, 3) := dk_182 0 59 (dk_at dksX0_told_2 18 rfl rfl)
theorem dX0_told_57 : decode cX0_told 57 = .ok (.ireturn, 1) := dk_172 (dk_at dksX0_told_2 21 rfl rfl)
theorem dX0_told_58 : decode cX0_told 58 = .ok (.aload_n 0, 1) := dk_42 (dk_at dksX0_told_2 22 rfl rfl)
theorem dX0_told_59 : decode cX0_told 59 = .ok (.getfield 23, 3) := dk_180 0 23 (dk_at dksX0_told_3 0 rfl rfl)
theorem dX0_told_62 : decode cX0_told 62 = .ok (.getfield 68, 3) := dk_180 0 68 (dk_at dksX0_told_3 3 rfl rfl)
theorem dX0_told_65 : decode cX0_told 65 = .ok (.invokevirtual 59, 3) := dk_182 0 59 (dk_at dksX0_told_3 6 rfl rfl)
theorem dX0_told_68 : decode cX0_told 68 = .ok (.ireturn, 1) := dk_172 (dk_at dksX0_told_3 9 rfl rfl)
theorem dX0_told_69 : decode cX0_told 69 = .ok (.aload_n 0, 1) := dk_42 (dk_at dksX0_told_3 10 rfl rfl)
theorem dX0_told_70 : decode cX0_told 70 = .ok (.getfield 23, 3) := dk_180 0 23 (dk_at dksX0_told_3 11 rfl rfl)
theorem dX0_told_73 : decode cX0_told 73 = .ok (.getfield 71, 3) := dk_180 0 71 (dk_at dksX0_told_3 14 rfl rfl)
theorem dX0_told_76 : decode cX0_told 76 = .ok (.invokevirtual 59, 3) := dk_182 0 59 (dk_at dksX0_told_3 17 rfl rfl)
theorem dX0_told_79 : decode cX0_told 79 = .ok (.ireturn, 1) := dk_172 (dk_at dksX0_told_3 20 rfl rfl)
theorem dX0_told_80 : decode cX0_told 80 = .ok (.aload_n 0, 1) := dk_42 (dk_at dksX0_told_3 21 rfl rfl)
theorem dX0_told_81 : decode cX0_told 81 = .ok (.getfield 34, 3) := dk_180 0 34 (dk_at dksX0_told_4 0 rfl rfl)
theorem dX0_told_84 : decode cX0_told 84 = .ok (.ireturn, 1) := dk_172 (dk_at dksX0_told_4 3 rfl rfl)
theorem dX0_told_85 : decode cX0_told 85 = .ok (.bipush (-3), 2) := dk_16 253 (dk_at dksX0_told_4 4 rfl rfl)
theorem dX0_told_87 : decode cX0_told 87 = .ok (.ireturn, 1) := dk_172 (dk_at dksX0_told_4 6 rfl rfl)
abbrev cX0_mistake : ByteArray := prog_1_method_8_code
def yX0_mistake : MethodName := ⟨RX0, "mistake", "(II)I"⟩
def dkwX0_mistake_3 : List UInt8 := [180, 0, 84, 172]
abbrev dktX0_mistake_3 : List UInt8 := dkwX0_mistake_3 ++ []
def dkwX0_mistake_2 : List UInt8 := [28, 154, 0, 10, 45, 180, 0, 80, 167, 0, 19, 28, 4, 160, 0, 10, 45, 180, 0, 83, 167, 0, 7, 45]
abbrev dktX0_mistake_2 : List UInt8 := dkwX0_mistake_2 ++ dktX0_mistake_3
def dkwX0_mistake_1 : List UInt8 := [184, 0, 42, 154, 0, 6, 16, 253, 172, 42, 180, 0, 23, 180, 0, 71, 27, 182, 0, 74, 192, 0, 78, 78]
abbrev dktX0_mistake_1 : List UInt8 := dkwX0_mistake_1 ++ dktX0_mistake_2
def dkwX0_mistake_0 : List UInt8 := [27, 3, 42, 180, 0, 23, 180, 0, 71, 182, 0, 59, 4, 100, 184, 0, 42, 153, 0, 12, 28, 3, 5]
abbrev dktX0_mistake_0 : List UInt8 := dkwX0_mistake_0 ++ dktX0_mistake_1
theorem dksX0_mistake_0 : cX0_mistake.data.toList.drop 0 = dktX0_mistake_0 := by decide +kernel
theorem dksX0_mistake_1 : cX0_mistake.data.toList.drop 23 = dktX0_mistake_1 := dk_seg dksX0_mistake_0 23 rfl rfl
theorem dksX0_mistake_2 : cX0_mistake.data.toList.drop 47 = dktX0_mistake_2 := dk_seg dksX0_mistake_1 24 rfl rfl
theorem dksX0_mistake_3 : cX0_mistake.data.toList.drop 71 = dktX0_mistake_3 := dk_seg dksX0_mistake_2 24 rfl rfl
theorem dX0_mistake_0 : decode cX0_mistake 0 = .ok (.iload_n 1, 1) := dk_27 (dk_at dksX0_mistake_0 0 rfl rfl)
theorem dX0_mistake_1 : decode cX0_mistake 1 = .ok (.iconst 0, 1) := dk_3 (dk_at dksX0_mistake_0 1 rfl rfl)
theorem dX0_mistake_2 : decode cX0_mistake 2 = .ok (.aload_n 0, 1) := dk_42 (dk_at dksX0_mistake_0 2 rfl rfl)
theorem dX0_mistake_3 : decode cX0_mistake 3 = .ok (.getfield 23, 3) := dk_180 0 23 (dk_at dksX0_mistake_0 3 rfl rfl)
theorem dX0_mistake_6 : decode cX0_mistake 6 = .ok (.getfield 71, 3) := dk_180 0 71 (dk_at dksX0_mistake_0 6 rfl rfl)
theorem dX0_mistake_9 : decode cX0_mistake 9 = .ok (.invokevirtual 59, 3) := dk_182 0 59 (dk_at dksX0_mistake_0 9 rfl rfl)
theorem dX0_mistake_12 : decode cX0_mistake 12 = .ok (.iconst 1, 1) := dk_4 (dk_at dksX0_mistake_0 12 rfl rfl)
theorem dX0_mistake_13 : decode cX0_mistake 13 = .ok (.isub, 1) := dk_100 (dk_at dksX0_mistake_0 13 rfl rfl)
theorem dX0_mistake_14 : decode cX0_mistake 14 = .ok (.invokestatic 42, 3) := dk_184 0 42 (dk_at dksX0_mistake_0 14 rfl rfl)
theorem dX0_mistake_17 : decode cX0_mistake 17 = .ok (.ifCond .eq 12, 3) := dk_153 0 12 (dk_at dksX0_mistake_0 17 rfl rfl)
theorem dX0_mistake_20 : decode cX0_mistake 20 = .ok (.iload_n 2, 1) := dk_28 (dk_at dksX0_mistake_0 20 rfl rfl)
theorem dX0_mistake_21 : decode cX0_mistake 21 = .ok (.iconst 0, 1) := dk_3 (dk_at dksX0_mistake_0 21 rfl rfl)
theorem dX0_mistake_22 : decode cX0_mistake 22 = .ok (.iconst 2, 1) := dk_5 (dk_at dksX0_mistake_0 22 rfl rfl)
theorem dX0_mistake_23 : decode cX0_mistake 23 = .ok (.invokestatic 42, 3) := dk_184 0 42 (dk_at dksX0_mistake_1 0 rfl rfl)
theorem dX0_mistake_26 : decode cX0_mistake 26 = .ok (.ifCond .ne 6, 3) := dk_154 0 6 (dk_at dksX0_mistake_1 3 rfl rfl)
theorem dX0_mistake_29 : decode cX0_mistake 29 = .ok (.bipush (-3), 2) := dk_16 253 (dk_at dksX0_mistake_1 6 rfl rfl)
theorem dX0_mistake_31 : decode cX0_mistake 31 = .ok (.ireturn, 1) := dk_172 (dk_at dksX0_mistake_1 8 rfl rfl)
theorem dX0_mistake_32 : decode cX0_mistake 32 = .ok (.aload_n 0, 1) := dk_42 (dk_at dksX0_mistake_1 9 rfl rfl)
theorem dX0_mistake_33 : decode cX0_mistake 33 = .ok (.getfield 23, 3) := dk_180 0 23 (dk_at dksX0_mistake_1 10 rfl rfl)
theorem dX0_mistake_36 : decode cX0_mistake 36 = .ok (.getfield 71, 3) := dk_180 0 71 (dk_at dksX0_mistake_1 13 rfl rfl)
theorem dX0_mistake_39 : decode cX0_mistake 39 = .ok (.iload_n 1, 1) := dk_27 (dk_at dksX0_mistake_1 16 rfl rfl)
theorem dX0_mistake_40 : decode cX0_mistake 40 = .ok (.invokevirtual 74, 3) := dk_182 0 74 (dk_at dksX0_mistake_1 17 rfl rfl)
theorem dX0_mistake_43 : decode cX0_mistake 43 = .ok (.checkcast 78, 3) := dk_192 0 78 (dk_at dksX0_mistake_1 20 rfl rfl)
theorem dX0_mistake_46 : decode cX0_mistake 46 = .ok (.astore_n 3, 1) := dk_78 (dk_at dksX0_mistake_1 23 rfl rfl)
theorem dX0_mistake_47 : decode cX0_mistake 47 = .ok (.iload_n 2, 1) := dk_28 (dk_at dksX0_mistake_2 0 rfl rfl)
theorem dX0_mistake_48 : decode cX0_mistake 48 = .ok (.ifCond .ne 10, 3) := dk_154 0 10 (dk_at dksX0_mistake_2 1 rfl rfl)
theorem dX0_mistake_51 : decode cX0_mistake 51 = .ok (.aload_n 3, 1) := dk_45 (dk_at dksX0_mistake_2 4 rfl rfl)
theorem dX0_mistake_52 : decode cX0_mistake 52 = .ok (.getfield 80, 3) := dk_180 0 80 (dk_at dksX0_mistake_2 5 rfl rfl)
theorem dX0_mistake_55 : decode cX0_mistake 55 = .ok (.goto 19, 3) := dk_167 0 19 (dk_at dksX0_mistake_2 8 rfl rfl)
theorem dX0_mistake_58 : decode cX0_mistake 58 = .ok (.iload_n 2, 1) := dk_28 (dk_at dksX0_mistake_2 11 rfl rfl)
theorem dX0_mistake_59 : decode cX0_mistake 59 = .ok (.iconst 1, 1) := dk_4 (dk_at dksX0_mistake_2 12 rfl rfl)
theorem dX0_mistake_60 : decode cX0_mistake 60 = .ok (.if_icmp .ne 10, 3) := dk_160 0 10 (dk_at dksX0_mistake_2 13 rfl rfl)
theorem dX0_mistake_63 : decode cX0_mistake 63 = .ok (.aload_n 3, 1) := dk_45 (dk_at dksX0_mistake_2 16 rfl rfl)
theorem dX0_mistake_64 : decode cX0_mistake 64 = .ok (.getfield 83, 3) := dk_180 0 83 (dk_at dksX0_mistake_2 17 rfl rfl)
theorem dX0_mistake_67 : decode cX0_mistake 67 = .ok (.goto 7, 3) := dk_167 0 7 (dk_at dksX0_mistake_2 20 rfl rfl)
theorem dX0_mistake_70 : decode cX0_mistake 70 = .ok (.aload_n 3, 1) := dk_45 (dk_at dksX0_mistake_2 23 rfl rfl)
theorem dX0_mistake_71 : decode cX0_mistake 71 = .ok (.getfield 84, 3) := dk_180 0 84 (dk_at dksX0_mistake_3 0 rfl rfl)
theorem dX0_mistake_74 : decode cX0_mistake 74 = .ok (.ireturn, 1) := dk_172 (dk_at dksX0_mistake_3 3 rfl rfl)
abbrev cX0_kind : ByteArray := prog_1_method_9_code
def yX0_kind : MethodName := ⟨RX0, "kind", "(II)I"⟩
def dkwX0_kind_4 : List UInt8 := [167, 0, 7, 45, 180, 0, 100, 172]
abbrev dktX0_kind_4 : List UInt8 := dkwX0_kind_4 ++ []
def dkwX0_kind_3 : List UInt8 := [167, 0, 31, 28, 4, 160, 0, 22, 42, 180, 0, 23, 45, 182, 0, 96, 153, 0, 7, 4, 167, 0, 11, 3]
abbrev dktX0_kind_3 : List UInt8 := dkwX0_kind_3 ++ dktX0_kind_4
def dkwX0_kind_2 : List UInt8 := [28, 154, 0, 24, 45, 180, 0, 89, 199, 0, 7, 2, 167, 0, 41, 45, 180, 0, 89, 180, 0, 93]
abbrev dktX0_kind_2 : List UInt8 := dkwX0_kind_2 ++ dktX0_kind_3
def dkwX0_kind_1 : List UInt8 := [184, 0, 42, 154, 0, 6, 16, 253, 172, 42, 180, 0, 23, 180, 0, 65, 27, 182, 0, 74, 192, 0, 87, 78]
abbrev dktX0_kind_1 : List UInt8 := dkwX0_kind_1 ++ dktX0_kind_2
def dkwX0_kind_0 : List UInt8 := [27, 3, 42, 180, 0, 23, 180, 0, 65, 182, 0, 59, 4, 100, 184, 0, 42, 153, 0, 12, 28, 3, 5]
abbrev dktX0_kind_0 : List UInt8 := dkwX0_kind_0 ++ dktX0_kind_1
theorem dksX0_kind_0 : cX0_kind.data.toList.drop 0 = dktX0_kind_0 := by decide +kernel
theorem dksX0_kind_1 : cX0_kind.data.toList.drop 23 = dktX0_kind_1 := dk_seg dksX0_kind_0 23 rfl rfl
theorem dksX0_kind_2 : cX0_kind.data.toList.drop 47 = dktX0_kind_2 := dk_seg dksX0_kind_1 24 rfl rfl
theorem dksX0_kind_3 : cX0_kind.data.toList.drop 69 = dktX0_kind_3 := dk_seg dksX0_kind_2 22 rfl rfl
theorem dksX0_kind_4 : cX0_kind.data.toList.drop 93 = dktX0_kind_4 := dk_seg dksX0_kind_3 24 rfl rfl
theorem dX0_kind_0 : decode cX0_kind 0 = .ok (.iload_n 1, 1) := dk_27 (dk_at dksX0_kind_0 0 rfl rfl)
theorem dX0_kind_1 : decode cX0_kind 1 = .ok (.iconst 0, 1) := dk_3 (dk_at dksX0_kind_0 1 rfl rfl)
theorem dX0_kind_2 : decode cX0_kind 2 = .ok (.aload_n 0, 1) := dk_42 (dk_at dksX0_kind_0 2 rfl rfl)
theorem dX0_kind_3 : decode cX0_kind 3 = .ok (.getfield 23, 3) := dk_180 0 23 (dk_at dksX0_kind_0 3 rfl rfl)
theorem dX0_kind_6 : decode cX0_kind 6 = .ok (.getfield 65, 3) := dk_180 0 65 (dk_at dksX0_kind_0 6 rfl rfl)
theorem dX0_kind_9 : decode cX0_kind 9 = .ok (.invokevirtual 59, 3) := dk_182 0 59 (dk_at dksX0_kind_0 9 rfl rfl)
theorem dX0_kind_12 : decode cX0_kind 12 = .ok (.iconst 1, 1) := dk_4 (dk_at dksX0_kind_0 12 rfl rfl)
theorem dX0_kind_13 : decode cX0_kind 13 = .ok (.isub, 1) := dk_100 (dk_at dksX0_kind_0 13 rfl rfl)
theorem dX0_kind_14 : decode cX0_kind 14 = .ok (.invokestatic 42, 3) := dk_184 0 42 (dk_at dksX0_kind_0 14 rfl rfl)
theorem dX0_kind_17 : decode cX0_kind 17 = .ok (.ifCond .eq 12, 3) := dk_153 0 12 (dk_at dksX0_kind_0 17 rfl rfl)
theorem dX0_kind_20 : decode cX0_kind 20 = .ok (.iload_n 2, 1) := dk_28 (dk_at dksX0_kind_0 20 rfl rfl)
theorem dX0_kind_21 : decode cX0_kind 21 = .ok (.iconst 0, 1) := dk_3 (dk_at dksX0_kind_0 21 rfl rfl)
theorem dX0_kind_22 : decode cX0_kind 22 = .ok (.iconst 2, 1) := dk_5 (dk_at dksX0_kind_0 22 rfl rfl)
theorem dX0_kind_23 : decode cX0_kind 23 = .ok (.invokestatic 42, 3) := dk_184 0 42 (dk_at dksX0_kind_1 0 rfl rfl)
theorem dX0_kind_26 : decode cX0_kind 26 = .ok (.ifCond .ne 6, 3) := dk_154 0 6 (dk_at dksX0_kind_1 3 rfl rfl)
theorem dX0_kind_29 : decode cX0_kind 29 = .ok (.bipush (-3), 2) := dk_16 253 (dk_at dksX0_kind_1 6 rfl rfl)
theorem dX0_kind_31 : decode cX0_kind 31 = .ok (.ireturn, 1) := dk_172 (dk_at dksX0_kind_1 8 rfl rfl)
theorem dX0_kind_32 : decode cX0_kind 32 = .ok (.aload_n 0, 1) := dk_42 (dk_at dksX0_kind_1 9 rfl rfl)
theorem dX0_kind_33 : decode cX0_kind 33 = .ok (.getfield 23, 3) := dk_180 0 23 (dk_at dksX0_kind_1 10 rfl rfl)
theorem dX0_kind_36 : decode cX0_kind 36 = .ok (.getfield 65, 3) := dk_180 0 65 (dk_at dksX0_kind_1 13 rfl rfl)
theorem dX0_kind_39 : decode cX0_kind 39 = .ok (.iload_n 1, 1) := dk_27 (dk_at dksX0_kind_1 16 rfl rfl)
theorem dX0_kind_40 : decode cX0_kind 40 = .ok (.invokevirtual 74, 3) := dk_182 0 74 (dk_at dksX0_kind_1 17 rfl rfl)
theorem dX0_kind_43 : decode cX0_kind 43 = .ok (.checkcast 87, 3) := dk_192 0 87 (dk_at dksX0_kind_1 20 rfl rfl)
theorem dX0_kind_46 : decode cX0_kind 46 = .ok (.astore_n 3, 1) := dk_78 (dk_at dksX0_kind_1 23 rfl rfl)
theorem dX0_kind_47 : decode cX0_kind 47 = .ok (.iload_n 2, 1) := dk_28 (dk_at dksX0_kind_2 0 rfl rfl)
theorem dX0_kind_48 : decode cX0_kind 48 = .ok (.ifCond .ne 24, 3) := dk_154 0 24 (dk_at dksX0_kind_2 1 rfl rfl)
theorem dX0_kind_51 : decode cX0_kind 51 = .ok (.aload_n 3, 1) := dk_45 (dk_at dksX0_kind_2 4 rfl rfl)
theorem dX0_kind_52 : decode cX0_kind 52 = .ok (.getfield 89, 3) := dk_180 0 89 (dk_at dksX0_kind_2 5 rfl rfl)
theorem dX0_kind_55 : decode cX0_kind 55 = .ok (.ifnonnull 7, 3) := dk_199 0 7 (dk_at dksX0_kind_2 8 rfl rfl)
theorem dX0_kind_58 : decode cX0_kind 58 = .ok (.iconst (-1), 1) := dk_2 (dk_at dksX0_kind_2 11 rfl rfl)
theorem dX0_kind_59 : decode cX0_kind 59 = .ok (.goto 41, 3) := dk_167 0 41 (dk_at dksX0_kind_2 12 rfl rfl)
theorem dX0_kind_62 : decode cX0_kind 62 = .ok (.aload_n 3, 1) := dk_45 (dk_at dksX0_kind_2 15 rfl rfl)
theorem dX0_kind_63 : decode cX0_kind 63 = .ok (.getfield 89, 3) := dk_180 0 89 (dk_at dksX0_kind_2 16 rfl rfl)
theorem dX0_kind_66 : decode cX0_kind 66 = .ok (.getfield 93, 3) := dk_180 0 93 (dk_at dksX0_kind_2 19 rfl rfl)
theorem dX0_kind_69 : decode cX0_kind 69 = .ok (.goto 31, 3) := dk_167 0 31 (dk_at dksX0_kind_3 0 rfl rfl)
theorem dX0_kind_72 : decode cX0_kind 72 = .ok (.iload_n 2, 1) := dk_28 (dk_at dksX0_kind_3 3 rfl rfl)
theorem dX0_kind_73 : decode cX0_kind 73 = .ok (.iconst 1, 1) := dk_4 (dk_at dksX0_kind_3 4 rfl rfl)
theorem dX0_kind_74 : decode cX0_kind 74 = .ok (.if_icmp .ne 22, 3) := dk_160 0 22 (dk_at dksX0_kind_3 5 rfl rfl)
theorem dX0_kind_77 : decode cX0_kind 77 = .ok (.aload_n 0, 1) := dk_42 (dk_at dksX0_kind_3 8 rfl rfl)
theorem dX0_kind_78 : decode cX0_kind 78 = .ok (.getfield 23, 3) := dk_180 0 23 (dk_at dksX0_kind_3 9 rfl rfl)
theorem dX0_kind_81 : decode cX0_kind 81 = .ok (.aload_n 3, 1) := dk_45 (dk_at dksX0_kind_3 12 rfl rfl)
theorem dX0_kind_82 : decode cX0_kind 82 = .ok (.invokevirtual 96, 3) := dk_182 0 96 (dk_at dksX0_kind_3 13 rfl rfl)
theorem dX0_kind_85 : decode cX0_kind 85 = .ok (.ifCond .eq 7, 3) := dk_153 0 7 (dk_at dksX0_kind_3 16 rfl rfl)
theorem dX0_kind_88 : decode cX0_kind 88 = .ok (.iconst 1, 1) := dk_4 (dk_at dksX0_kind_3 19 rfl rfl)
theorem dX0_kind_89 : decode cX0_kind 89 = .ok (.goto 11, 3) := dk_167 0 11 (dk_at dksX0_kind_3 20 rfl rfl)
theorem dX0_kind_92 : decode cX0_kind 92 = .ok (.iconst 0, 1) := dk_3 (dk_at dksX0_kind_3 23 rfl rfl)
theorem dX0_kind_93 : decode cX0_kind 93 = .ok (.goto 7, 3) := dk_167 0 7 (dk_at dksX0_kind_4 0 rfl rfl)
theorem dX0_kind_96 : decode cX0_kind 96 = .ok (.aload_n 3, 1) := dk_45 (dk_at dksX0_kind_4 3 rfl rfl)
theorem dX0_kind_97 : decode cX0_kind 97 = .ok (.getfield 100, 3) := dk_180 0 100 (dk_at dksX0_kind_4 4 rfl rfl)
theorem dX0_kind_100 : decode cX0_kind 100 = .ok (.ireturn, 1) := dk_172 (dk_at dksX0_kind_4 7 rfl rfl)
abbrev cX0_below : ByteArray := prog_1_method_10_code
def yX0_below : MethodName := ⟨RX0, "below", "(II)Z"⟩
def dkwX0_below_3 : List UInt8 := [172]
abbrev dktX0_below_3 : List UInt8 := dkwX0_below_3 ++ []
def dkwX0_below_2 : List UInt8 := [180, 0, 23, 180, 0, 65, 28, 182, 0, 74, 192, 0, 87, 182, 0, 101, 153, 0, 7, 4, 167, 0, 4, 3]
abbrev dktX0_below_2 : List UInt8 := dkwX0_below_2 ++ dktX0_below_3
def dkwX0_below_1 : List UInt8 := [29, 184, 0, 42, 153, 0, 41, 42, 180, 0, 23, 180, 0, 65, 27, 182, 0, 74, 192, 0, 87, 42]
abbrev dktX0_below_1 : List UInt8 := dkwX0_below_1 ++ dktX0_below_2
def dkwX0_below_0 : List UInt8 := [42, 180, 0, 23, 180, 0, 65, 182, 0, 59, 4, 100, 62, 27, 3, 29, 184, 0, 42, 153, 0, 50, 28, 3]
abbrev dktX0_below_0 : List UInt8 := dkwX0_below_0 ++ dktX0_below_1
theorem dksX0_below_0 : cX0_below.data.toList.drop 0 = dktX0_below_0 := by decide +kernel
theorem dksX0_below_1 : cX0_below.data.toList.drop 24 = dktX0_below_1 := dk_seg dksX0_below_0 24 rfl rfl
theorem dksX0_below_2 : cX0_below.data.toList.drop 46 = dktX0_below_2 := dk_seg dksX0_below_1 22 rfl rfl
theorem dksX0_below_3 : cX0_below.data.toList.drop 70 = dktX0_below_3 := dk_seg dksX0_below_2 24 rfl rfl
theorem dX0_below_0 : decode cX0_below 0 = .ok (.aload_n 0, 1) := dk_42 (dk_at dksX0_below_0 0 rfl rfl)
theorem dX0_below_1 : decode cX0_below 1 = .ok (.getfield 23, 3) := dk_180 0 23 (dk_at dksX0_below_0 1 rfl rfl)
theorem dX0_below_4 : decode cX0_below 4 = .ok (.getfield 65, 3) := dk_180 0 65 (dk_at dksX0_below_0 4 rfl rfl)
theorem dX0_below_7 : decode cX0_below 7 = .ok (.invokevirtual 59, 3) := dk_182 0 59 (dk_at dksX0_below_0 7 rfl rfl)
theorem dX0_below_10 : decode cX0_below 10 = .ok (.iconst 1, 1) := dk_4 (dk_at dksX0_below_0 10 rfl rfl)
theorem dX0_below_11 : decode cX0_below 11 = .ok (.isub, 1) := dk_100 (dk_at dksX0_below_0 11 rfl rfl)
theorem dX0_below_12 : decode cX0_below 12 = .ok (.istore_n 3, 1) := dk_62 (dk_at dksX0_below_0 12 rfl rfl)
theorem dX0_below_13 : decode cX0_below 13 = .ok (.iload_n 1, 1) := dk_27 (dk_at dksX0_below_0 13 rfl rfl)
theorem dX0_below_14 : decode cX0_below 14 = .ok (.iconst 0, 1) := dk_3 (dk_at dksX0_below_0 14 rfl rfl)
theorem dX0_below_15 : decode cX0_below 15 = .ok (.iload_n 3, 1) := dk_29 (dk_at dksX0_below_0 15 rfl rfl)
theorem dX0_below_16 : decode cX0_below 16 = .ok (.invokestatic 42, 3) := dk_184 0 42 (dk_at dksX0_below_0 16 rfl rfl)
theorem dX0_below_19 : decode cX0_below 19 = .ok (.ifCond .eq 50, 3) := dk_153 0 50 (dk_at dksX0_below_0 19 rfl rfl)
theorem dX0_below_22 : decode cX0_below 22 = .ok (.iload_n 2, 1) := dk_28 (dk_at dksX0_below_0 22 rfl rfl)
theorem dX0_below_23 : decode cX0_below 23 = .ok (.iconst 0, 1) := dk_3 (dk_at dksX0_below_0 23 rfl rfl)
theorem dX0_below_24 : decode cX0_below 24 = .ok (.iload_n 3, 1) := dk_29 (dk_at dksX0_below_1 0 rfl rfl)
theorem dX0_below_25 : decode cX0_below 25 = .ok (.invokestatic 42, 3) := dk_184 0 42 (dk_at dksX0_below_1 1 rfl rfl)
theorem dX0_below_28 : decode cX0_below 28 = .ok (.ifCond .eq 41, 3) := dk_153 0 41 (dk_at dksX0_below_1 4 rfl rfl)
theorem dX0_below_31 : decode cX0_below 31 = .ok (.aload_n 0, 1) := dk_42 (dk_at dksX0_below_1 7 rfl rfl)
theorem dX0_below_32 : decode cX0_below 32 = .ok (.getfield 23, 3) := dk_180 0 23 (dk_at dksX0_below_1 8 rfl rfl)
theorem dX0_below_35 : decode cX0_below 35 = .ok (.getfield 65, 3) := dk_180 0 65 (dk_at dksX0_below_1 11 rfl rfl)
theorem dX0_below_38 : decode cX0_below 38 = .ok (.iload_n 1, 1) := dk_27 (dk_at dksX0_below_1 14 rfl rfl)
theorem dX0_below_39 : decode cX0_below 39 = .ok (.invokevirtual 74, 3) := dk_182 0 74 (dk_at dksX0_below_1 15 rfl rfl)
theorem dX0_below_42 : decode cX0_below 42 = .ok (.checkcast 87, 3) := dk_192 0 87 (dk_at dksX0_below_1 18 rfl rfl)
theorem dX0_below_45 : decode cX0_below 45 = .ok (.aload_n 0, 1) := dk_42 (dk_at dksX0_below_1 21 rfl rfl)
theorem dX0_below_46 : decode cX0_below 46 = .ok (.getfield 23, 3) := dk_180 0 23 (dk_at dksX0_below_2 0 rfl rfl)
theorem dX0_below_49 : decode cX0_below 49 = .ok (.getfield 65, 3) := dk_180 0 65 (dk_at dksX0_below_2 3 rfl rfl)
theorem dX0_below_52 : decode cX0_below 52 = .ok (.iload_n 2, 1) := dk_28 (dk_at dksX0_below_2 6 rfl rfl)
theorem dX0_below_53 : decode cX0_below 53 = .ok (.invokevirtual 74, 3) := dk_182 0 74 (dk_at dksX0_below_2 7 rfl rfl)
theorem dX0_below_56 : decode cX0_below 56 = .ok (.checkcast 87, 3) := dk_192 0 87 (dk_at dksX0_below_2 10 rfl rfl)
theorem dX0_below_59 : decode cX0_below 59 = .ok (.invokevirtual 101, 3) := dk_182 0 101 (dk_at dksX0_below_2 13 rfl rfl)
theorem dX0_below_62 : decode cX0_below 62 = .ok (.ifCond .eq 7, 3) := dk_153 0 7 (dk_at dksX0_below_2 16 rfl rfl)
theorem dX0_below_65 : decode cX0_below 65 = .ok (.iconst 1, 1) := dk_4 (dk_at dksX0_below_2 19 rfl rfl)
theorem dX0_below_66 : decode cX0_below 66 = .ok (.goto 4, 3) := dk_167 0 4 (dk_at dksX0_below_2 20 rfl rfl)
theorem dX0_below_69 : decode cX0_below 69 = .ok (.iconst 0, 1) := dk_3 (dk_at dksX0_below_2 23 rfl rfl)
theorem dX0_below_70 : decode cX0_below 70 = .ok (.ireturn, 1) := dk_172 (dk_at dksX0_below_3 0 rfl rfl)
abbrev cX0_method : ByteArray := prog_1_method_11_code
def yX0_method : MethodName := ⟨RX0, "method", "(II)I"⟩
def dkwX0_method_7 : List UInt8 := [199, 0, 7, 2, 167, 0, 10, 45, 180, 0, 130, 180, 0, 134, 172, 16, 253, 172]
abbrev dktX0_method_7 : List UInt8 := dkwX0_method_7 ++ []
def dkwX0_method_6 : List UInt8 := [167, 0, 4, 3, 172, 45, 180, 0, 127, 153, 0, 7, 4, 167, 0, 4, 3, 172, 45, 180, 0, 130]
abbrev dktX0_method_6 : List UInt8 := dkwX0_method_6 ++ dktX0_method_7
def dkwX0_method_5 : List UInt8 := [182, 0, 119, 172, 45, 180, 0, 107, 198, 0, 17, 45, 180, 0, 107, 180, 0, 123, 153, 0, 7, 4]
abbrev dktX0_method_5 : List UInt8 := dkwX0_method_5 ++ dktX0_method_6
def dkwX0_method_4 : List UInt8 := [199, 0, 7, 3, 167, 0, 10, 45, 180, 0, 107, 180, 0, 111, 172, 42, 180, 0, 23, 45, 180, 0, 116]
abbrev dktX0_method_4 : List UInt8 := dkwX0_method_4 ++ dktX0_method_5
def dkwX0_method_3 : List UInt8 := [45, 180, 0, 106, 172, 45, 180, 0, 107, 199, 0, 7, 3, 167, 0, 4, 4, 172, 45, 180, 0, 107]
abbrev dktX0_method_3 : List UInt8 := dkwX0_method_3 ++ dktX0_method_4
def dkwX0_method_2 : List UInt8 := [170, 0, 0, 0, 145, 0, 0, 0, 0, 0, 0, 0, 6, 0, 0, 0, 41, 0, 0, 0, 46, 0, 0, 0, 59, 0, 0, 0, 78, 0, 0, 0, 90, 0, 0, 0, 113, 0, 0, 0, 126]
abbrev dktX0_method_2 : List UInt8 := dkwX0_method_2 ++ dktX0_method_3
def dkwX0_method_1 : List UInt8 := [180, 0, 23, 180, 0, 55, 27, 182, 0, 74, 192, 0, 104, 78, 28]
abbrev dktX0_method_1 : List UInt8 := dkwX0_method_1 ++ dktX0_method_2
def dkwX0_method_0 : List UInt8 := [27, 3, 42, 180, 0, 23, 180, 0, 55, 182, 0, 59, 4, 100, 184, 0, 42, 154, 0, 6, 16, 253, 172, 42]
abbrev dktX0_method_0 : List UInt8 := dkwX0_method_0 ++ dktX0_method_1
theorem dksX0_method_0 : cX0_method.data.toList.drop 0 = dktX0_method_0 := by decide +kernel
theorem dksX0_method_1 : cX0_method.data.toList.drop 24 = dktX0_method_1 := dk_seg dksX0_method_0 24 rfl rfl
theorem dksX0_method_2 : cX0_method.data.toList.drop 39 = dktX0_method_2 := dk_seg dksX0_method_1 15 rfl rfl
theorem dksX0_method_3 : cX0_method.data.toList.drop 80 = dktX0_method_3 := dk_seg dksX0_method_2 41 rfl rfl
theorem dksX0_method_4 : cX0_method.data.toList.drop 102 = dktX0_method_4 := dk_seg dksX0_method_3 22 rfl rfl
theorem dksX0_method_5 : cX0_method.data.toList.drop 125 = dktX0_method_5 := dk_seg dksX0_method_4 23 rfl rfl
theorem dksX0_method_6 : cX0_method.data.toList.drop 147 = dktX0_method_6 := dk_seg dksX0_method_5 22 rfl rfl
theorem dksX0_method_7 : cX0_method.data.toList.drop 169 = dktX0_method_7 := dk_seg dksX0_method_6 22 rfl rfl
theorem dX0_method_0 : decode cX0_method 0 = .ok (.iload_n 1, 1) := dk_27 (dk_at dksX0_method_0 0 rfl rfl)
theorem dX0_method_1 : decode cX0_method 1 = .ok (.iconst 0, 1) := dk_3 (dk_at dksX0_method_0 1 rfl rfl)
theorem dX0_method_2 : decode cX0_method 2 = .ok (.aload_n 0, 1) := dk_42 (dk_at dksX0_method_0 2 rfl rfl)
theorem dX0_method_3 : decode cX0_method 3 = .ok (.getfield 23, 3) := dk_180 0 23 (dk_at dksX0_method_0 3 rfl rfl)
theorem dX0_method_6 : decode cX0_method 6 = .ok (.getfield 55, 3) := dk_180 0 55 (dk_at dksX0_method_0 6 rfl rfl)
theorem dX0_method_9 : decode cX0_method 9 = .ok (.invokevirtual 59, 3) := dk_182 0 59 (dk_at dksX0_method_0 9 rfl rfl)
theorem dX0_method_12 : decode cX0_method 12 = .ok (.iconst 1, 1) := dk_4 (dk_at dksX0_method_0 12 rfl rfl)
theorem dX0_method_13 : decode cX0_method 13 = .ok (.isub, 1) := dk_100 (dk_at dksX0_method_0 13 rfl rfl)
theorem dX0_method_14 : decode cX0_method 14 = .ok (.invokestatic 42, 3) := dk_184 0 42 (dk_at dksX0_method_0 14 rfl rfl)
theorem dX0_method_17 : decode cX0_method 17 = .ok (.ifCond .ne 6, 3) := dk_154 0 6 (dk_at dksX0_method_0 17 rfl rfl)
theorem dX0_method_20 : decode cX0_method 20 = .ok (.bipush (-3), 2) := dk_16 253 (dk_at dksX0_method_0 20 rfl rfl)
theorem dX0_method_22 : decode cX0_method 22 = .ok (.ireturn, 1) := dk_172 (dk_at dksX0_method_0 22 rfl rfl)
theorem dX0_method_23 : decode cX0_method 23 = .ok (.aload_n 0, 1) := dk_42 (dk_at dksX0_method_0 23 rfl rfl)
theorem dX0_method_24 : decode cX0_method 24 = .ok (.getfield 23, 3) := dk_180 0 23 (dk_at dksX0_method_1 0 rfl rfl)
theorem dX0_method_27 : decode cX0_method 27 = .ok (.getfield 55, 3) := dk_180 0 55 (dk_at dksX0_method_1 3 rfl rfl)
theorem dX0_method_30 : decode cX0_method 30 = .ok (.iload_n 1, 1) := dk_27 (dk_at dksX0_method_1 6 rfl rfl)
theorem dX0_method_31 : decode cX0_method 31 = .ok (.invokevirtual 74, 3) := dk_182 0 74 (dk_at dksX0_method_1 7 rfl rfl)
theorem dX0_method_34 : decode cX0_method 34 = .ok (.checkcast 104, 3) := dk_192 0 104 (dk_at dksX0_method_1 10 rfl rfl)
theorem dX0_method_37 : decode cX0_method 37 = .ok (.astore_n 3, 1) := dk_78 (dk_at dksX0_method_1 13 rfl rfl)
theorem dX0_method_38 : decode cX0_method 38 = .ok (.iload_n 2, 1) := dk_28 (dk_at dksX0_method_1 14 rfl rfl)
theorem dX0_method_39 : decode cX0_method 39 = .ok (.tableswitch 145 0 6 #[41, 46, 59, 78, 90, 113, 126], 41) := by decide +kernel
theorem dX0_method_80 : decode cX0_method 80 = .ok (.aload_n 3, 1) := dk_45 (dk_at dksX0_method_3 0 rfl rfl)
theorem dX0_method_81 : decode cX0_method 81 = .ok (.getfield 106, 3) := dk_180 0 106 (dk_at dksX0_method_3 1 rfl rfl)
theorem dX0_method_84 : decode cX0_method 84 = .ok (.ireturn, 1) := dk_172 (dk_at dksX0_method_3 4 rfl rfl)
theorem dX0_method_85 : decode cX0_method 85 = .ok (.aload_n 3, 1) := dk_45 (dk_at dksX0_method_3 5 rfl rfl)
theorem dX0_method_86 : decode cX0_method 86 = .ok (.getfield 107, 3) := dk_180 0 107 (dk_at dksX0_method_3 6 rfl rfl)
theorem dX0_method_89 : decode cX0_method 89 = .ok (.ifnonnull 7, 3) := dk_199 0 7 (dk_at dksX0_method_3 9 rfl rfl)
theorem dX0_method_92 : decode cX0_method 92 = .ok (.iconst 0, 1) := dk_3 (dk_at dksX0_method_3 12 rfl rfl)
theorem dX0_method_93 : decode cX0_method 93 = .ok (.goto 4, 3) := dk_167 0 4 (dk_at dksX0_method_3 13 rfl rfl)
theorem dX0_method_96 : decode cX0_method 96 = .ok (.iconst 1, 1) := dk_4 (dk_at dksX0_method_3 16 rfl rfl)
theorem dX0_method_97 : decode cX0_method 97 = .ok (.ireturn, 1) := dk_172 (dk_at dksX0_method_3 17 rfl rfl)
theorem dX0_method_98 : decode cX0_method 98 = .ok (.aload_n 3, 1) := dk_45 (dk_at dksX0_method_3 18 rfl rfl)
theorem dX0_method_99 : decode cX0_method 99 = .ok (.getfield 107, 3) := dk_180 0 107 (dk_at dksX0_method_3 19 rfl rfl)
theorem dX0_method_102 : decode cX0_method 102 = .ok (.ifnonnull 7, 3) := dk_199 0 7 (dk_at dksX0_method_4 0 rfl rfl)
theorem dX0_method_105 : decode cX0_method 105 = .ok (.iconst 0, 1) := dk_3 (dk_at dksX0_method_4 3 rfl rfl)
theorem dX0_method_106 : decode cX0_method 106 = .ok (.goto 10, 3) := dk_167 0 10 (dk_at dksX0_method_4 4 rfl rfl)
theorem dX0_method_109 : decode cX0_method 109 = .ok (.aload_n 3, 1) := dk_45 (dk_at dksX0_method_4 7 rfl rfl)
theorem dX0_method_110 : decode cX0_method 110 = .ok (.getfield 107, 3) := dk_180 0 107 (dk_at dksX0_method_4 8 rfl rfl)
theorem dX0_method_113 : decode cX0_method 113 = .ok (.getfield 111, 3) := dk_180 0 111 (dk_at dksX0_method_4 11 rfl rfl)
theorem dX0_method_116 : decode cX0_method 116 = .ok (.ireturn, 1) := dk_172 (dk_at dksX0_method_4 14 rfl rfl)
theorem dX0_method_117 : decode cX0_method 117 = .ok (.aload_n 0, 1) := dk_42 (dk_at dksX0_method_4 15 rfl rfl)
theorem dX0_method_118 : decode cX0_method 118 = .ok (.getfield 23, 3) := dk_180 0 23 (dk_at dksX0_method_4 16 rfl rfl)
theorem dX0_method_121 : decode cX0_method 121 = .ok (.aload_n 3, 1) := dk_45 (dk_at dksX0_method_4 19 rfl rfl)
theorem dX0_method_122 : decode cX0_method 122 = .ok (.getfield 116, 3) := dk_180 0 116 (dk_at dksX0_method_4 20 rfl rfl)
theorem dX0_method_125 : decode cX0_method 125 = .ok (.invokevirtual 119, 3) := dk_182 0 119 (dk_at dksX0_method_5 0 rfl rfl)
theorem dX0_method_128 : decode cX0_method 128 = .ok (.ireturn, 1) := dk_172 (dk_at dksX0_method_5 3 rfl rfl)
theorem dX0_method_129 : decode cX0_method 129 = .ok (.aload_n 3, 1) := dk_45 (dk_at dksX0_method_5 4 rfl rfl)
theorem dX0_method_130 : decode cX0_method 130 = .ok (.getfield 107, 3) := dk_180 0 107 (dk_at dksX0_method_5 5 rfl rfl)
theorem dX0_method_133 : decode cX0_method 133 = .ok (.ifnull 17, 3) := dk_198 0 17 (dk_at dksX0_method_5 8 rfl rfl)
theorem dX0_method_136 : decode cX0_method 136 = .ok (.aload_n 3, 1) := dk_45 (dk_at dksX0_method_5 11 rfl rfl)
theorem dX0_method_137 : decode cX0_method 137 = .ok (.getfield 107, 3) := dk_180 0 107 (dk_at dksX0_method_5 12 rfl rfl)
theorem dX0_method_140 : decode cX0_method 140 = .ok (.getfield 123, 3) := dk_180 0 123 (dk_at dksX0_method_5 15 rfl rfl)
theorem dX0_method_143 : decode cX0_method 143 = .ok (.ifCond .eq 7, 3) := dk_153 0 7 (dk_at dksX0_method_5 18 rfl rfl)
theorem dX0_method_146 : decode cX0_method 146 = .ok (.iconst 1, 1) := dk_4 (dk_at dksX0_method_5 21 rfl rfl)
theorem dX0_method_147 : decode cX0_method 147 = .ok (.goto 4, 3) := dk_167 0 4 (dk_at dksX0_method_6 0 rfl rfl)
theorem dX0_method_150 : decode cX0_method 150 = .ok (.iconst 0, 1) := dk_3 (dk_at dksX0_method_6 3 rfl rfl)
theorem dX0_method_151 : decode cX0_method 151 = .ok (.ireturn, 1) := dk_172 (dk_at dksX0_method_6 4 rfl rfl)
theorem dX0_method_152 : decode cX0_method 152 = .ok (.aload_n 3, 1) := dk_45 (dk_at dksX0_method_6 5 rfl rfl)
theorem dX0_method_153 : decode cX0_method 153 = .ok (.getfield 127, 3) := dk_180 0 127 (dk_at dksX0_method_6 6 rfl rfl)
theorem dX0_method_156 : decode cX0_method 156 = .ok (.ifCond .eq 7, 3) := dk_153 0 7 (dk_at dksX0_method_6 9 rfl rfl)
theorem dX0_method_159 : decode cX0_method 159 = .ok (.iconst 1, 1) := dk_4 (dk_at dksX0_method_6 12 rfl rfl)
theorem dX0_method_160 : decode cX0_method 160 = .ok (.goto 4, 3) := dk_167 0 4 (dk_at dksX0_method_6 13 rfl rfl)
theorem dX0_method_163 : decode cX0_method 163 = .ok (.iconst 0, 1) := dk_3 (dk_at dksX0_method_6 16 rfl rfl)
theorem dX0_method_164 : decode cX0_method 164 = .ok (.ireturn, 1) := dk_172 (dk_at dksX0_method_6 17 rfl rfl)
theorem dX0_method_165 : decode cX0_method 165 = .ok (.aload_n 3, 1) := dk_45 (dk_at dksX0_method_6 18 rfl rfl)
theorem dX0_method_166 : decode cX0_method 166 = .ok (.getfield 130, 3) := dk_180 0 130 (dk_at dksX0_method_6 19 rfl rfl)
theorem dX0_method_169 : decode cX0_method 169 = .ok (.ifnonnull 7, 3) := dk_199 0 7 (dk_at dksX0_method_7 0 rfl rfl)
theorem dX0_method_172 : decode cX0_method 172 = .ok (.iconst (-1), 1) := dk_2 (dk_at dksX0_method_7 3 rfl rfl)
theorem dX0_method_173 : decode cX0_method 173 = .ok (.goto 10, 3) := dk_167 0 10 (dk_at dksX0_method_7 4 rfl rfl)
theorem dX0_method_176 : decode cX0_method 176 = .ok (.aload_n 3, 1) := dk_45 (dk_at dksX0_method_7 7 rfl rfl)
theorem dX0_method_177 : decode cX0_method 177 = .ok (.getfield 130, 3) := dk_180 0 130 (dk_at dksX0_method_7 8 rfl rfl)
theorem dX0_method_180 : decode cX0_method 180 = .ok (.getfield 134, 3) := dk_180 0 134 (dk_at dksX0_method_7 11 rfl rfl)
theorem dX0_method_183 : decode cX0_method 183 = .ok (.ireturn, 1) := dk_172 (dk_at dksX0_method_7 14 rfl rfl)
theorem dX0_method_184 : decode cX0_method 184 = .ok (.bipush (-3), 2) := dk_16 253 (dk_at dksX0_method_7 15 rfl rfl)
theorem dX0_method_186 : decode cX0_method 186 = .ok (.ireturn, 1) := dk_172 (dk_at dksX0_method_7 17 rfl rfl)
abbrev cX0_statement : ByteArray := prog_1_method_12_code
def yX0_statement : MethodName := ⟨RX0, "statement", "(II)I"⟩
def dkwX0_statement_4 : List UInt8 := [167, 0, 4, 3, 172, 45, 180, 0, 143, 180, 0, 134, 172, 16, 253, 172]
abbrev dktX0_statement_4 : List UInt8 := dkwX0_statement_4 ++ []
def dkwX0_statement_3 : List UInt8 := [45, 182, 0, 137, 172, 45, 180, 0, 140, 172, 45, 180, 0, 141, 172, 45, 180, 0, 142, 153, 0, 7, 4]
abbrev dktX0_statement_3 : List UInt8 := dkwX0_statement_3 ++ dktX0_statement_4
def dkwX0_statement_2 : List UInt8 := [170, 0, 0, 0, 69, 0, 0, 0, 0, 0, 0, 0, 4, 0, 0, 0, 33, 0, 0, 0, 38, 0, 0, 0, 43, 0, 0, 0, 48, 0, 0, 0, 61]
abbrev dktX0_statement_2 : List UInt8 := dkwX0_statement_2 ++ dktX0_statement_3
def dkwX0_statement_1 : List UInt8 := [180, 0, 23, 180, 0, 68, 27, 182, 0, 74, 192, 0, 135, 78, 28]
abbrev dktX0_statement_1 : List UInt8 := dkwX0_statement_1 ++ dktX0_statement_2
def dkwX0_statement_0 : List UInt8 := [27, 3, 42, 180, 0, 23, 180, 0, 68, 182, 0, 59, 4, 100, 184, 0, 42, 154, 0, 6, 16, 253, 172, 42]
abbrev dktX0_statement_0 : List UInt8 := dkwX0_statement_0 ++ dktX0_statement_1
theorem dksX0_statement_0 : cX0_statement.data.toList.drop 0 = dktX0_statement_0 := by decide +kernel
theorem dksX0_statement_1 : cX0_statement.data.toList.drop 24 = dktX0_statement_1 := dk_seg dksX0_statement_0 24 rfl rfl
theorem dksX0_statement_2 : cX0_statement.data.toList.drop 39 = dktX0_statement_2 := dk_seg dksX0_statement_1 15 rfl rfl
theorem dksX0_statement_3 : cX0_statement.data.toList.drop 72 = dktX0_statement_3 := dk_seg dksX0_statement_2 33 rfl rfl
theorem dksX0_statement_4 : cX0_statement.data.toList.drop 95 = dktX0_statement_4 := dk_seg dksX0_statement_3 23 rfl rfl
theorem dX0_statement_0 : decode cX0_statement 0 = .ok (.iload_n 1, 1) := dk_27 (dk_at dksX0_statement_0 0 rfl rfl)
theorem dX0_statement_1 : decode cX0_statement 1 = .ok (.iconst 0, 1) := dk_3 (dk_at dksX0_statement_0 1 rfl rfl)
theorem dX0_statement_2 : decode cX0_statement 2 = .ok (.aload_n 0, 1) := dk_42 (dk_at dksX0_statement_0 2 rfl rfl)
theorem dX0_statement_3 : decode cX0_statement 3 = .ok (.getfield 23, 3) := dk_180 0 23 (dk_at dksX0_statement_0 3 rfl rfl)
theorem dX0_statement_6 : decode cX0_statement 6 = .ok (.getfield 68, 3) := dk_180 0 68 (dk_at dksX0_statement_0 6 rfl rfl)
theorem dX0_statement_9 : decode cX0_statement 9 = .ok (.invokevirtual 59, 3) := dk_182 0 59 (dk_at dksX0_statement_0 9 rfl rfl)
theorem dX0_statement_12 : decode cX0_statement 12 = .ok (.iconst 1, 1) := dk_4 (dk_at dksX0_statement_0 12 rfl rfl)
theorem dX0_statement_13 : decode cX0_statement 13 = .ok (.isub, 1) := dk_100 (dk_at dksX0_statement_0 13 rfl rfl)
theorem dX0_statement_14 : decode cX0_statement 14 = .ok (.invokestatic 42, 3) := dk_184 0 42 (dk_at dksX0_statement_0 14 rfl rfl)
theorem dX0_statement_17 : decode cX0_statement 17 = .ok (.ifCond .ne 6, 3) := dk_154 0 6 (dk_at dksX0_statement_0 17 rfl rfl)
theorem dX0_statement_20 : decode cX0_statement 20 = .ok (.bipush (-3), 2) := dk_16 253 (dk_at dksX0_statement_0 20 rfl rfl)
theorem dX0_statement_22 : decode cX0_statement 22 = .ok (.ireturn, 1) := dk_172 (dk_at dksX0_statement_0 22 rfl rfl)
theorem dX0_statement_23 : decode cX0_statement 23 = .ok (.aload_n 0, 1) := dk_42 (dk_at dksX0_statement_0 23 rfl rfl)
theorem dX0_statement_24 : decode cX0_statement 24 = .ok (.getfield 23, 3) := dk_180 0 23 (dk_at dksX0_statement_1 0 rfl rfl)
theorem dX0_statement_27 : decode cX0_statement 27 = .ok (.getfield 68, 3) := dk_180 0 68 (dk_at dksX0_statement_1 3 rfl rfl)
theorem dX0_statement_30 : decode cX0_statement 30 = .ok (.iload_n 1, 1) := dk_27 (dk_at dksX0_statement_1 6 rfl rfl)
theorem dX0_statement_31 : decode cX0_statement 31 = .ok (.invokevirtual 74, 3) := dk_182 0 74 (dk_at dksX0_statement_1 7 rfl rfl)
theorem dX0_statement_34 : decode cX0_statement 34 = .ok (.checkcast 135, 3) := dk_192 0 135 (dk_at dksX0_statement_1 10 rfl rfl)
theorem dX0_statement_37 : decode cX0_statement 37 = .ok (.astore_n 3, 1) := dk_78 (dk_at dksX0_statement_1 13 rfl rfl)
theorem dX0_statement_38 : decode cX0_statement 38 = .ok (.iload_n 2, 1) := dk_28 (dk_at dksX0_statement_1 14 rfl rfl)
theorem dX0_statement_39 : decode cX0_statement 39 = .ok (.tableswitch 69 0 4 #[33, 38, 43, 48, 61], 33) := by decide +kernel
theorem dX0_statement_72 : decode cX0_statement 72 = .ok (.aload_n 3, 1) := dk_45 (dk_at dksX0_statement_3 0 rfl rfl)
theorem dX0_statement_73 : decode cX0_statement 73 = .ok (.invokevirtual 137, 3) := dk_182 0 137 (dk_at dksX0_statement_3 1 rfl rfl)
theorem dX0_statement_76 : decode cX0_statement 76 = .ok (.ireturn, 1) := dk_172 (dk_at dksX0_statement_3 4 rfl rfl)
theorem dX0_statement_77 : decode cX0_statement 77 = .ok (.aload_n 3, 1) := dk_45 (dk_at dksX0_statement_3 5 rfl rfl)
theorem dX0_statement_78 : decode cX0_statement 78 = .ok (.getfield 140, 3) := dk_180 0 140 (dk_at dksX0_statement_3 6 rfl rfl)
theorem dX0_statement_81 : decode cX0_statement 81 = .ok (.ireturn, 1) := dk_172 (dk_at dksX0_statement_3 9 rfl rfl)
theorem dX0_statement_82 : decode cX0_statement 82 = .ok (.aload_n 3, 1) := dk_45 (dk_at dksX0_statement_3 10 rfl rfl)
theorem dX0_statement_83 : decode cX0_statement 83 = .ok (.getfield 141, 3) := dk_180 0 141 (dk_at dksX0_statement_3 11 rfl rfl)
theorem dX0_statement_86 : decode cX0_statement 86 = .ok (.ireturn, 1) := dk_172 (dk_at dksX0_statement_3 14 rfl rfl)
theorem dX0_statement_87 : decode cX0_statement 87 = .ok (.aload_n 3, 1) := dk_45 (dk_at dksX0_statement_3 15 rfl rfl)
theorem dX0_statement_88 : decode cX0_statement 88 = .ok (.getfield 142, 3) := dk_180 0 142 (dk_at dksX0_statement_3 16 rfl rfl)
theorem dX0_statement_91 : decode cX0_statement 91 = .ok (.ifCond .eq 7, 3) := dk_153 0 7 (dk_at dksX0_statement_3 19 rfl rfl)
theorem dX0_statement_94 : decode cX0_statement 94 = .ok (.iconst 1, 1) := dk_4 (dk_at dksX0_statement_3 22 rfl rfl)
theorem dX0_statement_95 : decode cX0_statement 95 = .ok (.goto 4, 3) := dk_167 0 4 (dk_at dksX0_statement_4 0 rfl rfl)
theorem dX0_statement_98 : decode cX0_statement 98 = .ok (.iconst 0, 1) := dk_3 (dk_at dksX0_statement_4 3 rfl rfl)
theorem dX0_statement_99 : decode cX0_statement 99 = .ok (.ireturn, 1) := dk_172 (dk_at dksX0_statement_4 4 rfl rfl)
theorem dX0_statement_100 : decode cX0_statement 100 = .ok (.aload_n 3, 1) := dk_45 (dk_at dksX0_statement_4 5 rfl rfl)
theorem dX0_statement_101 : decode cX0_statement 101 = .ok (.getfield 143, 3) := dk_180 0 143 (dk_at dksX0_statement_4 6 rfl rfl)
theorem dX0_statement_104 : decode cX0_statement 104 = .ok (.getfield 134, 3) := dk_180 0 134 (dk_at dksX0_statement_4 9 rfl rfl)
theorem dX0_statement_107 : decode cX0_statement 107 = .ok (.ireturn, 1) := dk_172 (dk_at dksX0_statement_4 12 rfl rfl)
theorem dX0_statement_108 : decode cX0_statement 108 = .ok (.bipush (-3), 2) := dk_16 253 (dk_at dksX0_statement_4 13 rfl rfl)
theorem dX0_statement_110 : decode cX0_statement 110 = .ok (.ireturn, 1) := dk_172 (dk_at dksX0_statement_4 15 rfl rfl)
abbrev cX0_find : ByteArray := prog_1_method_13_code
def yX0_find : MethodName := ⟨RX0, "find", "()I"⟩
def dkwX0_find_6 : List UInt8 := [96, 167, 0, 4, 2, 172]
abbrev dktX0_find_6 : List UInt8 := dkwX0_find_6 ++ []
def dkwX0_find_5 : List UInt8 := [16, 100, 25, 4, 180, 0, 93, 96, 167, 0, 21, 25, 5, 198, 0, 15, 17, 0, 200, 25, 5, 180, 0, 134]
abbrev dktX0_find_5 : List UInt8 := dkwX0_find_5 ++ dktX0_find_6
def dkwX0_find_4 : List UInt8 := [167, 0, 17, 42, 180, 0, 23, 180, 0, 167, 45, 182, 0, 162, 192, 0, 104, 58, 5, 25, 4, 198, 0, 14]
abbrev dktX0_find_4 : List UInt8 := dkwX0_find_4 ++ dktX0_find_5
def dkwX0_find_3 : List UInt8 := [180, 0, 23, 180, 0, 158, 45, 182, 0, 162, 192, 0, 87, 58, 4, 27, 16, 8, 164, 0, 7, 1]
abbrev dktX0_find_3 : List UInt8 := dkwX0_find_3 ++ dktX0_find_4
def dkwX0_find_2 : List UInt8 := [87, 132, 3, 1, 167, 255, 226, 44, 182, 0, 154, 78, 27, 16, 8, 164, 0, 7, 1, 167, 0, 17, 42]
abbrev dktX0_find_2 : List UInt8 := dkwX0_find_2 ++ dktX0_find_3
def dkwX0_find_1 : List UInt8 := [162, 0, 31, 29, 16, 9, 162, 0, 25, 44, 42, 180, 0, 9, 29, 51, 17, 0, 255, 126, 146, 182, 0, 150]
abbrev dktX0_find_1 : List UInt8 := dkwX0_find_1 ++ dktX0_find_2
def dkwX0_find_0 : List UInt8 := [42, 180, 0, 34, 60, 42, 3, 181, 0, 34, 187, 0, 146, 89, 16, 8, 183, 0, 148, 77, 3, 62, 29, 27]
abbrev dktX0_find_0 : List UInt8 := dkwX0_find_0 ++ dktX0_find_1
theorem dksX0_find_0 : cX0_find.data.toList.drop 0 = dktX0_find_0 := by decide +kernel
theorem dksX0_find_1 : cX0_find.data.toList.drop 24 = dktX0_find_1 := dk_seg dksX0_find_0 24 rfl rfl
theorem dksX0_find_2 : cX0_find.data.toList.drop 48 = dktX0_find_2 := dk_seg dksX0_find_1 24 rfl rfl
theorem dksX0_find_3 : cX0_find.data.toList.drop 71 = dktX0_find_3 := dk_seg dksX0_find_2 23 rfl rfl
theorem dksX0_find_4 : cX0_find.data.toList.drop 93 = dktX0_find_4 := dk_seg dksX0_find_3 22 rfl rfl
theorem dksX0_find_5 : cX0_find.data.toList.drop 117 = dktX0_find_5 := dk_seg dksX0_find_4 24 rfl rfl
theorem dksX0_find_6 : cX0_find.data.toList.drop 141 = dktX0_find_6 := dk_seg dksX0_find_5 24 rfl rfl
theorem dX0_find_0 : decode cX0_find 0 = .ok (.aload_n 0, 1) := dk_42 (dk_at dksX0_find_0 0 rfl rfl)
theorem dX0_find_1 : decode cX0_find 1 = .ok (.getfield 34, 3) := dk_180 0 34 (dk_at dksX0_find_0 1 rfl rfl)
theorem dX0_find_4 : decode cX0_find 4 = .ok (.istore_n 1, 1) := dk_60 (dk_at dksX0_find_0 4 rfl rfl)
theorem dX0_find_5 : decode cX0_find 5 = .ok (.aload_n 0, 1) := dk_42 (dk_at dksX0_find_0 5 rfl rfl)
theorem dX0_find_6 : decode cX0_find 6 = .ok (.iconst 0, 1) := dk_3 (dk_at dksX0_find_0 6 rfl rfl)
theorem dX0_find_7 : decode cX0_find 7 = .ok (.putfield 34, 3) := dk_181 0 34 (dk_at dksX0_find_0 7 rfl rfl)
theorem dX0_find_10 : decode cX0_find 10 = .ok (.new 146, 3) := dk_187 0 146 (dk_at dksX0_find_0 10 rfl rfl)
theorem dX0_find_13 : decode cX0_find 13 = .ok (.dup, 1) := dk_89 (dk_at dksX0_find_0 13 rfl rfl)
theorem dX0_find_14 : decode cX0_find 14 = .ok (.bipush 8, 2) := dk_16 8 (dk_at dksX0_find_0 14 rfl rfl)
theorem dX0_find_16 : decode cX0_find 16 = .ok (.invokespecial 148, 3) := dk_183 0 148 (dk_at dksX0_find_0 16 rfl rfl)
theorem dX0_find_19 : decode cX0_find 19 = .ok (.astore_n 2, 1) := dk_77 (dk_at dksX0_find_0 19 rfl rfl)
theorem dX0_find_20 : decode cX0_find 20 = .ok (.iconst 0, 1) := dk_3 (dk_at dksX0_find_0 20 rfl rfl)
theorem dX0_find_21 : decode cX0_find 21 = .ok (.istore_n 3, 1) := dk_62 (dk_at dksX0_find_0 21 rfl rfl)
theorem dX0_find_22 : decode cX0_find 22 = .ok (.iload_n 3, 1) := dk_29 (dk_at dksX0_find_0 22 rfl rfl)
theorem dX0_find_23 : decode cX0_find 23 = .ok (.iload_n 1, 1) := dk_27 (dk_at dksX0_find_0 23 rfl rfl)
theorem dX0_find_24 : decode cX0_find 24 = .ok (.if_icmp .ge 31, 3) := dk_162 0 31 (dk_at dksX0_find_1 0 rfl rfl)
theorem dX0_find_27 : decode cX0_find 27 = .ok (.iload_n 3, 1) := dk_29 (dk_at dksX0_find_1 3 rfl rfl)
theorem dX0_find_28 : decode cX0_find 28 = .ok (.bipush 9, 2) := dk_16 9 (dk_at dksX0_find_1 4 rfl rfl)
theorem dX0_find_30 : decode cX0_find 30 = .ok (.if_icmp .ge 25, 3) := dk_162 0 25 (dk_at dksX0_find_1 6 rfl rfl)
theorem dX0_find_33 : decode cX0_find 33 = .ok (.aload_n 2, 1) := dk_44 (dk_at dksX0_find_1 9 rfl rfl)
theorem dX0_find_34 : decode cX0_find 34 = .ok (.aload_n 0, 1) := dk_42 (dk_at dksX0_find_1 10 rfl rfl)
theorem dX0_find_35 : decode cX0_find 35 = .ok (.getfield 9, 3) := dk_180 0 9 (dk_at dksX0_find_1 11 rfl rfl)
theorem dX0_find_38 : decode cX0_find 38 = .ok (.iload_n 3, 1) := dk_29 (dk_at dksX0_find_1 14 rfl rfl)
theorem dX0_find_39 : decode cX0_find 39 = .ok (.baload, 1) := dk_51 (dk_at dksX0_find_1 15 rfl rfl)
theorem dX0_find_40 : decode cX0_find 40 = .ok (.sipush 255, 3) := dk_17 0 255 (dk_at dksX0_find_1 16 rfl rfl)
theorem dX0_find_43 : decode cX0_find 43 = .ok (.iand, 1) := dk_126 (dk_at dksX0_find_1 19 rfl rfl)
theorem dX0_find_44 : decode cX0_find 44 = .ok (.i2c, 1) := dk_146 (dk_at dksX0_find_1 20 rfl rfl)
theorem dX0_find_45 : decode cX0_find 45 = .ok (.invokevirtual 150, 3) := dk_182 0 150 (dk_at dksX0_find_1 21 rfl rfl)
theorem dX0_find_48 : decode cX0_find 48 = .ok (.pop, 1) := dk_87 (dk_at dksX0_find_2 0 rfl rfl)
theorem dX0_find_49 : decode cX0_find 49 = .ok (.iinc 3 1, 3) := dk_132 3 1 (dk_at dksX0_find_2 1 rfl rfl)
theorem dX0_find_52 : decode cX0_find 52 = .ok (.goto (-30), 3) := dk_167 255 226 (dk_at dksX0_find_2 4 rfl rfl)
theorem dX0_find_55 : decode cX0_find 55 = .ok (.aload_n 2, 1) := dk_44 (dk_at dksX0_find_2 7 rfl rfl)
theorem dX0_find_56 : decode cX0_find 56 = .ok (.invokevirtual 154, 3) := dk_182 0 154 (dk_at dksX0_find_2 8 rfl rfl)
theorem dX0_find_59 : decode cX0_find 59 = .ok (.astore_n 3, 1) := dk_78 (dk_at dksX0_find_2 11 rfl rfl)
theorem dX0_find_60 : decode cX0_find 60 = .ok (.iload_n 1, 1) := dk_27 (dk_at dksX0_find_2 12 rfl rfl)
theorem dX0_find_61 : decode cX0_find 61 = .ok (.bipush 8, 2) := dk_16 8 (dk_at dksX0_find_2 13 rfl rfl)
theorem dX0_find_63 : decode cX0_find 63 = .ok (.if_icmp .le 7, 3) := dk_164 0 7 (dk_at dksX0_find_2 15 rfl rfl)
theorem dX0_find_66 : decode cX0_find 66 = .ok (.aconst_null, 1) := dk_1 (dk_at dksX0_find_2 18 rfl rfl)
theorem dX0_find_67 : decode cX0_find 67 = .ok (.goto 17, 3) := dk_167 0 17 (dk_at dksX0_find_2 19 rfl rfl)
theorem dX0_find_70 : decode cX0_find 70 = .ok (.aload_n 0, 1) := dk_42 (dk_at dksX0_find_2 22 rfl rfl)
theorem dX0_find_71 : decode cX0_find 71 = .ok (.getfield 23, 3) := dk_180 0 23 (dk_at dksX0_find_3 0 rfl rfl)
theorem dX0_find_74 : decode cX0_find 74 = .ok (.getfield 158, 3) := dk_180 0 158 (dk_at dksX0_find_3 3 rfl rfl)
theorem dX0_find_77 : decode cX0_find 77 = .ok (.aload_n 3, 1) := dk_45 (dk_at dksX0_find_3 6 rfl rfl)
theorem dX0_find_78 : decode cX0_find 78 = .ok (.invokevirtual 162, 3) := dk_182 0 162 (dk_at dksX0_find_3 7 rfl rfl)
theorem dX0_find_81 : decode cX0_find 81 = .ok (.checkcast 87, 3) := dk_192 0 87 (dk_at dksX0_find_3 10 rfl rfl)
theorem dX0_find_84 : decode cX0_find 84 = .ok (.astore 4, 2) := dk_58 4 (dk_at dksX0_find_3 13 rfl rfl)
theorem dX0_find_86 : decode cX0_find 86 = .ok (.iload_n 1, 1) := dk_27 (dk_at dksX0_find_3 15 rfl rfl)
theorem dX0_find_87 : decode cX0_find 87 = .ok (.bipush 8, 2) := dk_16 8 (dk_at dksX0_find_3 16 rfl rfl)
theorem dX0_find_89 : decode cX0_find 89 = .ok (.if_icmp .le 7, 3) := dk_164 0 7 (dk_at dksX0_find_3 18 rfl rfl)
theorem dX0_find_92 : decode cX0_find 92 = .ok (.aconst_null, 1) := dk_1 (dk_at dksX0_find_3 21 rfl rfl)
theorem dX0_find_93 : decode cX0_find 93 = .ok (.goto 17, 3) := dk_167 0 17 (dk_at dksX0_find_4 0 rfl rfl)
theorem dX0_find_96 : decode cX0_find 96 = .ok (.aload_n 0, 1) := dk_42 (dk_at dksX0_find_4 3 rfl rfl)
theorem dX0_find_97 : decode cX0_find 97 = .ok (.getfield 23, 3) := dk_180 0 23 (dk_at dksX0_find_4 4 rfl rfl)
theorem dX0_find_100 : decode cX0_find 100 = .ok (.getfield 167, 3) := dk_180 0 167 (dk_at dksX0_find_4 7 rfl rfl)
theorem dX0_find_103 : decode cX0_find 103 = .ok (.aload_n 3, 1) := dk_45 (dk_at dksX0_find_4 10 rfl rfl)
theorem dX0_find_104 : decode cX0_find 104 = .ok (.invokevirtual 162, 3) := dk_182 0 162 (dk_at dksX0_find_4 11 rfl rfl)
theorem dX0_find_107 : decode cX0_find 107 = .ok (.checkcast 104, 3) := dk_192 0 104 (dk_at dksX0_find_4 14 rfl rfl)
theorem dX0_find_110 : decode cX0_find 110 = .ok (.astore 5, 2) := dk_58 5 (dk_at dksX0_find_4 17 rfl rfl)
theorem dX0_find_112 : decode cX0_find 112 = .ok (.aload 4, 2) := dk_25 4 (dk_at dksX0_find_4 19 rfl rfl)
theorem dX0_find_114 : decode cX0_find 114 = .ok (.ifnull 14, 3) := dk_198 0 14 (dk_at dksX0_find_4 21 rfl rfl)
theorem dX0_find_117 : decode cX0_find 117 = .ok (.bipush 100, 2) := dk_16 100 (dk_at dksX0_find_5 0 rfl rfl)
theorem dX0_find_119 : decode cX0_find 119 = .ok (.aload 4, 2) := dk_25 4 (dk_at dksX0_find_5 2 rfl rfl)
theorem dX0_find_121 : decode cX0_find 121 = .ok (.getfield 93, 3) := dk_180 0 93 (dk_at dksX0_find_5 4 rfl rfl)
theorem dX0_find_124 : decode cX0_find 124 = .ok (.iadd, 1) := dk_96 (dk_at dksX0_find_5 7 rfl rfl)
theorem dX0_find_125 : decode cX0_find 125 = .ok (.goto 21, 3) := dk_167 0 21 (dk_at dksX0_find_5 8 rfl rfl)
theorem dX0_find_128 : decode cX0_find 128 = .ok (.aload 5, 2) := dk_25 5 (dk_at dksX0_find_5 11 rfl rfl)
theorem dX0_find_130 : decode cX0_find 130 = .ok (.ifnull 15, 3) := dk_198 0 15 (dk_at dksX0_find_5 13 rfl rfl)
theorem dX0_find_133 : decode cX0_find 133 = .ok (.sipush 200, 3) := dk_17 0 200 (dk_at dksX0_find_5 16 rfl rfl)
theorem dX0_find_136 : decode cX0_find 136 = .ok (.aload 5, 2) := dk_25 5 (dk_at dksX0_find_5 19 rfl rfl)
theorem dX0_find_138 : decode cX0_find 138 = .ok (.getfield 134, 3) := dk_180 0 134 (dk_at dksX0_find_5 21 rfl rfl)
theorem dX0_find_141 : decode cX0_find 141 = .ok (.iadd, 1) := dk_96 (dk_at dksX0_find_6 0 rfl rfl)
theorem dX0_find_142 : decode cX0_find 142 = .ok (.goto 4, 3) := dk_167 0 4 (dk_at dksX0_find_6 1 rfl rfl)
theorem dX0_find_145 : decode cX0_find 145 = .ok (.iconst (-1), 1) := dk_2 (dk_at dksX0_find_6 4 rfl rfl)
theorem dX0_find_146 : decode cX0_find 146 = .ok (.ireturn, 1) := dk_172 (dk_at dksX0_find_6 5 rfl rfl)
abbrev cX0_walk : ByteArray := prog_1_method_14_code
def yX0_walk : MethodName := ⟨RX0, "walk", "(IJ)I"⟩
def dkwX0_walk_2 : List UInt8 := [180, 0, 23, 180, 0, 55, 27, 182, 0, 74, 192, 0, 104, 180, 0, 107, 32, 182, 0, 170, 172]
abbrev dktX0_walk_2 : List UInt8 := dkwX0_walk_2 ++ []
def dkwX0_walk_1 : List UInt8 := [180, 0, 55, 27, 182, 0, 74, 192, 0, 104, 180, 0, 107, 199, 0, 6, 16, 253, 172, 42, 180, 0, 30, 42]
abbrev dktX0_walk_1 : List UInt8 := dkwX0_walk_1 ++ dktX0_walk_2
def dkwX0_walk_0 : List UInt8 := [27, 3, 42, 180, 0, 23, 180, 0, 55, 182, 0, 59, 4, 100, 184, 0, 42, 153, 0, 23, 42, 180, 0, 23]
abbrev dktX0_walk_0 : List UInt8 := dkwX0_walk_0 ++ dktX0_walk_1
theorem dksX0_walk_0 : cX0_walk.data.toList.drop 0 = dktX0_walk_0 := by decide +kernel
theorem dksX0_walk_1 : cX0_walk.data.toList.drop 24 = dktX0_walk_1 := dk_seg dksX0_walk_0 24 rfl rfl
theorem dksX0_walk_2 : cX0_walk.data.toList.drop 48 = dktX0_walk_2 := dk_seg dksX0_walk_1 24 rfl rfl
theorem dX0_walk_0 : decode cX0_walk 0 = .ok (.iload_n 1, 1) := dk_27 (dk_at dksX0_walk_0 0 rfl rfl)
theorem dX0_walk_1 : decode cX0_walk 1 = .ok (.iconst 0, 1) := dk_3 (dk_at dksX0_walk_0 1 rfl rfl)
theorem dX0_walk_2 : decode cX0_walk 2 = .ok (.aload_n 0, 1) := dk_42 (dk_at dksX0_walk_0 2 rfl rfl)
theorem dX0_walk_3 : decode cX0_walk 3 = .ok (.getfield 23, 3) := dk_180 0 23 (dk_at dksX0_walk_0 3 rfl rfl)
theorem dX0_walk_6 : decode cX0_walk 6 = .ok (.getfield 55, 3) := dk_180 0 55 (dk_at dksX0_walk_0 6 rfl rfl)
theorem dX0_walk_9 : decode cX0_walk 9 = .ok (.invokevirtual 59, 3) := dk_182 0 59 (dk_at dksX0_walk_0 9 rfl rfl)
theorem dX0_walk_12 : decode cX0_walk 12 = .ok (.iconst 1, 1) := dk_4 (dk_at dksX0_walk_0 12 rfl rfl)
theorem dX0_walk_13 : decode cX0_walk 13 = .ok (.isub, 1) := dk_100 (dk_at dksX0_walk_0 13 rfl rfl)
theorem dX0_walk_14 : decode cX0_walk 14 = .ok (.invokestatic 42, 3) := dk_184 0 42 (dk_at dksX0_walk_0 14 rfl rfl)
theorem dX0_walk_17 : decode cX0_walk 17 = .ok (.ifCond .eq 23, 3) := dk_153 0 23 (dk_at dksX0_walk_0 17 rfl rfl)
theorem dX0_walk_20 : decode cX0_walk 20 = .ok (.aload_n 0, 1) := dk_42 (dk_at dksX0_walk_0 20 rfl rfl)
theorem dX0_walk_21 : decode cX0_walk 21 = .ok (.getfield 23, 3) := dk_180 0 23 (dk_at dksX0_walk_0 21 rfl rfl)
theorem dX0_walk_24 : decode cX0_walk 24 = .ok (.getfield 55, 3) := dk_180 0 55 (dk_at dksX0_walk_1 0 rfl rfl)
theorem dX0_walk_27 : decode cX0_walk 27 = .ok (.iload_n 1, 1) := dk_27 (dk_at dksX0_walk_1 3 rfl rfl)
theorem dX0_walk_28 : decode cX0_walk 28 = .ok (.invokevirtual 74, 3) := dk_182 0 74 (dk_at dksX0_walk_1 4 rfl rfl)
theorem dX0_walk_31 : decode cX0_walk 31 = .ok (.checkcast 104, 3) := dk_192 0 104 (dk_at dksX0_walk_1 7 rfl rfl)
theorem dX0_walk_34 : decode cX0_walk 34 = .ok (.getfield 107, 3) := dk_180 0 107 (dk_at dksX0_walk_1 10 rfl rfl)
theorem dX0_walk_37 : decode cX0_walk 37 = .ok (.ifnonnull 6, 3) := dk_199 0 6 (dk_at dksX0_walk_1 13 rfl rfl)
theorem dX0_walk_40 : decode cX0_walk 40 = .ok (.bipush (-3), 2) := dk_16 253 (dk_at dksX0_walk_1 16 rfl rfl)
theorem dX0_walk_42 : decode cX0_walk 42 = .ok (.ireturn, 1) := dk_172 (dk_at dksX0_walk_1 18 rfl rfl)
theorem dX0_walk_43 : decode cX0_walk 43 = .ok (.aload_n 0, 1) := dk_42 (dk_at dksX0_walk_1 19 rfl rfl)
theorem dX0_walk_44 : decode cX0_walk 44 = .ok (.getfield 30, 3) := dk_180 0 30 (dk_at dksX0_walk_1 20 rfl rfl)
theorem dX0_walk_47 : decode cX0_walk 47 = .ok (.aload_n 0, 1) := dk_42 (dk_at dksX0_walk_1 23 rfl rfl)
theorem dX0_walk_48 : decode cX0_walk 48 = .ok (.getfield 23, 3) := dk_180 0 23 (dk_at dksX0_walk_2 0 rfl rfl)
theorem dX0_walk_51 : decode cX0_walk 51 = .ok (.getfield 55, 3) := dk_180 0 55 (dk_at dksX0_walk_2 3 rfl rfl)
theorem dX0_walk_54 : decode cX0_walk 54 = .ok (.iload_n 1, 1) := dk_27 (dk_at dksX0_walk_2 6 rfl rfl)
theorem dX0_walk_55 : decode cX0_walk 55 = .ok (.invokevirtual 74, 3) := dk_182 0 74 (dk_at dksX0_walk_2 7 rfl rfl)
theorem dX0_walk_58 : decode cX0_walk 58 = .ok (.checkcast 104, 3) := dk_192 0 104 (dk_at dksX0_walk_2 10 rfl rfl)
theorem dX0_walk_61 : decode cX0_walk 61 = .ok (.getfield 107, 3) := dk_180 0 107 (dk_at dksX0_walk_2 13 rfl rfl)
theorem dX0_walk_64 : decode cX0_walk 64 = .ok (.lload_n 2, 1) := dk_32 (dk_at dksX0_walk_2 16 rfl rfl)
theorem dX0_walk_65 : decode cX0_walk 65 = .ok (.invokevirtual 170, 3) := dk_182 0 170 (dk_at dksX0_walk_2 17 rfl rfl)
theorem dX0_walk_68 : decode cX0_walk 68 = .ok (.ireturn, 1) := dk_172 (dk_at dksX0_walk_2 20 rfl rfl)
abbrev cX0_steps : ByteArray := prog_1_method_15_code
def yX0_steps : MethodName := ⟨RX0, "steps", "()I"⟩
def dkwX0_steps_0 : List UInt8 := [42, 180, 0, 30, 180, 0, 174, 172]
abbrev dktX0_steps_0 : List UInt8 := dkwX0_steps_0 ++ []
theorem dksX0_steps_0 : cX0_steps.data.toList.drop 0 = dktX0_steps_0 := by decide +kernel
theorem dX0_steps_0 : decode cX0_steps 0 = .ok (.aload_n 0, 1) := dk_42 (dk_at dksX0_steps_0 0 rfl rfl)
theorem dX0_steps_1 : decode cX0_steps 1 = .ok (.getfield 30, 3) := dk_180 0 30 (dk_at dksX0_steps_0 1 rfl rfl)
theorem dX0_steps_4 : decode cX0_steps 4 = .ok (.getfield 174, 3) := dk_180 0 174 (dk_at dksX0_steps_0 4 rfl rfl)
theorem dX0_steps_7 : decode cX0_steps 7 = .ok (.ireturn, 1) := dk_172 (dk_at dksX0_steps_0 7 rfl rfl)
theorem q93 : (Jvm.Cond.initialized "ThrowRules") ∈ lw_all := lw_g (lw_at lw_m1 1 rfl) rfl
theorem q147 : (Jvm.Cond.instantiable "ThrowRules" (5 : Nat)) ∈ lw_all := lw_g (lw_at lw_m1 55 rfl) rfl
theorem q149 : (Jvm.Cond.instanceMethod ({ cls := "ThrowRules", name := "<init>", desc := "()V" } : Jvm.MethodName)) ∈ lw_all := lw_g (lw_at lw_m1 57 rfl) rfl
theorem q150 : (Jvm.Cond.code ({ cls := "ThrowRules", name := "<init>", desc := "()V" } : Jvm.MethodName) prog_1_method_1_code (1 : Nat) (Option.none : Option Jvm.ClassFile.FieldType)) ∈ lw_all := lw_g (lw_at lw_m1 58 rfl) rfl
theorem q151 : (Jvm.Cond.methodLink "ThrowRules" (1 : Nat) ({ cls := "java/lang/Object", name := "<init>", desc := "()V" } : Jvm.MethodName)) ∈ lw_all := lw_g (lw_at lw_m1 59 rfl) rfl
theorem q154 : (Jvm.Cond.classLink "ThrowRules" (13 : Nat) "ThrowRules$Reader") ∈ lw_all := lw_g (lw_at lw_m1 62 rfl) rfl
theorem q156 : (Jvm.Cond.methodLinkNest "ThrowRules" (15 : Nat) ({ cls := "ThrowRules$Reader", name := "<init>", desc := "()V" } : Jvm.MethodName) "ThrowRules") ∈ lw_tbl := lw_at lw_m1 64 rfl
theorem q212 : (Jvm.Cond.fieldLinkNest "ThrowRules" (52 : Nat) "ThrowRules$Wrong" "place" "I" "ThrowRules") ∈ lw_tbl := lw_at lw_m1 120 rfl
theorem q310 : (Jvm.Cond.classLink "ThrowRules" (20 : Nat) "ThrowRules$Unit") ∈ lw_all := lw_g (lw_at lw_m1 218 rfl) rfl
theorem q312 : (Jvm.Cond.methodLink "ThrowRules" (22 : Nat) ({ cls := "ThrowRules$Unit", name := "<init>", desc := "()V" } : Jvm.MethodName)) ∈ lw_all := lw_g (lw_at lw_m1 220 rfl) rfl
theorem q372 : (Jvm.Cond.fieldLinkNest "ThrowRules" (93 : Nat) "ThrowRules$Kind" "number" "I" "ThrowRules") ∈ lw_tbl := lw_at lw_m2 40 rfl
theorem q375 : (Jvm.Cond.fieldLinkNest "ThrowRules" (89 : Nat) "ThrowRules$Kind" "parent" "LThrowRules$Kind;" "ThrowRules") ∈ lw_tbl := lw_at lw_m2 43 rfl
theorem q378 : (Jvm.Cond.fieldLinkNest "ThrowRules" (100 : Nat) "ThrowRules$Kind" "place" "I" "ThrowRules") ∈ lw_tbl := lw_at lw_m2 46 rfl
theorem q420 : (Jvm.Cond.selects "ThrowRules" ({ cls := "java/lang/Object", name := "getClass", desc := "()Ljava/lang/Class;" } : Jvm.MethodName) ({ cls := "java/lang/Object", name := "getClass", desc := "()Ljava/lang/Class;" } : Jvm.MethodName)) ∈ lw_all := lw_g (lw_at lw_m2 88 rfl) rfl
theorem q481 : (Jvm.Cond.selects "ThrowRules" ({ cls := "java/lang/Object", name := "hashCode", desc := "()I" } : Jvm.MethodName) ({ cls := "java/lang/Object", name := "hashCode", desc := "()I" } : Jvm.MethodName)) ∈ lw_all := lw_g (lw_at lw_m2 149 rfl) rfl
theorem q581 : (Jvm.Cond.selects "ThrowRules" ({ cls := "java/lang/Object", name := "equals", desc := "(Ljava/lang/Object;)Z" } : Jvm.MethodName) ({ cls := "java/lang/Object", name := "equals", desc := "(Ljava/lang/Object;)Z" } : Jvm.MethodName)) ∈ lw_all := lw_g (lw_at lw_m3 9 rfl) rfl
theorem q1000 : (Jvm.Cond.fieldLinkNest "ThrowRules" (65 : Nat) "ThrowRules$Unit" "kinds" "Ljava/util/ArrayList;" "ThrowRules") ∈ lw_tbl := lw_at lw_m4 188 rfl
theorem q1004 : (Jvm.Cond.fieldLinkNest "ThrowRules" (158 : Nat) "ThrowRules$Unit" "kindOf" "Ljava/util/HashMap;" "ThrowRules") ∈ lw_tbl := lw_at lw_m4 192 rfl
theorem q1006 : (Jvm.Cond.fieldLinkNest "ThrowRules" (55 : Nat) "ThrowRules$Unit" "methods" "Ljava/util/ArrayList;" "ThrowRules") ∈ lw_tbl := lw_at lw_m4 194 rfl
theorem q1009 : (Jvm.Cond.fieldLinkNest "ThrowRules" (167 : Nat) "ThrowRules$Unit" "methodOf" "Ljava/util/HashMap;" "ThrowRules") ∈ lw_tbl := lw_at lw_m4 197 rfl
theorem q1012 : (Jvm.Cond.fieldLinkNest "ThrowRules" (68 : Nat) "ThrowRules$Unit" "statements" "Ljava/util/ArrayList;" "ThrowRules") ∈ lw_tbl := lw_at lw_m4 200 rfl
theorem q1015 : (Jvm.Cond.fieldLinkNest "ThrowRules" (71 : Nat) "ThrowRules$Unit" "mistakes" "Ljava/util/ArrayList;" "ThrowRules") ∈ lw_tbl := lw_at lw_m4 203 rfl
theorem q1029 : (Jvm.Cond.classLink "ThrowRules" (27 : Nat) "ThrowRules$Walk") ∈ lw_all := lw_g (lw_at lw_m4 217 rfl) rfl
theorem q1031 : (Jvm.Cond.methodLinkNest "ThrowRules" (29 : Nat) ({ cls := "ThrowRules$Walk", name := "<init>", desc := "()V" } : Jvm.MethodName) "ThrowRules") ∈ lw_tbl := lw_at lw_m4 219 rfl
theorem q1051 : (Jvm.Cond.fieldLinkNest "ThrowRules" (174 : Nat) "ThrowRules$Walk" "steps" "I" "ThrowRules") ∈ lw_tbl := lw_at lw_m4 239 rfl
theorem q1063 : (Jvm.Cond.fieldLink "ThrowRules" (9 : Nat) "ThrowRules" "tape" "[B") ∈ lw_all := lw_g (lw_at lw_m5 11 rfl) rfl
theorem q1064 : (Jvm.Cond.fieldLink "ThrowRules" (34 : Nat) "ThrowRules" "taped" "I") ∈ lw_all := lw_g (lw_at lw_m5 12 rfl) rfl
theorem q1065 : (Jvm.Cond.fieldLink "ThrowRules" (16 : Nat) "ThrowRules" "reader" "LThrowRules$Reader;") ∈ lw_all := lw_g (lw_at lw_m5 13 rfl) rfl
theorem q1066 : (Jvm.Cond.fieldLink "ThrowRules" (23 : Nat) "ThrowRules" "unit" "LThrowRules$Unit;") ∈ lw_all := lw_g (lw_at lw_m5 14 rfl) rfl
theorem q1067 : (Jvm.Cond.fieldLink "ThrowRules" (30 : Nat) "ThrowRules" "walk" "LThrowRules$Walk;") ∈ lw_all := lw_g (lw_at lw_m5 15 rfl) rfl
theorem q1068 : (Jvm.Cond.laysFinal "ThrowRules" "ThrowRules" "tape" "[B") ∈ lw_all := lw_g (lw_at lw_m5 16 rfl) rfl
theorem q1069 : (Jvm.Cond.soleField "ThrowRules" "tape") ∈ lw_all := lw_g (lw_at lw_m5 17 rfl) rfl
theorem q1070 : (Jvm.Cond.lays "ThrowRules" "ThrowRules" "taped" "I") ∈ lw_all := lw_g (lw_at lw_m5 18 rfl) rfl
theorem q1071 : (Jvm.Cond.soleField "ThrowRules" "taped") ∈ lw_all := lw_g (lw_at lw_m5 19 rfl) rfl
theorem q1072 : (Jvm.Cond.laysFinal "ThrowRules" "ThrowRules" "reader" "LThrowRules$Reader;") ∈ lw_all := lw_g (lw_at lw_m5 20 rfl) rfl
theorem q1073 : (Jvm.Cond.soleField "ThrowRules" "reader") ∈ lw_all := lw_g (lw_at lw_m5 21 rfl) rfl
theorem q1074 : (Jvm.Cond.lays "ThrowRules" "ThrowRules" "unit" "LThrowRules$Unit;") ∈ lw_all := lw_g (lw_at lw_m5 22 rfl) rfl
theorem q1075 : (Jvm.Cond.soleField "ThrowRules" "unit") ∈ lw_all := lw_g (lw_at lw_m5 23 rfl) rfl
theorem q1076 : (Jvm.Cond.laysFinal "ThrowRules" "ThrowRules" "walk" "LThrowRules$Walk;") ∈ lw_all := lw_g (lw_at lw_m5 24 rfl) rfl
theorem q1077 : (Jvm.Cond.soleField "ThrowRules" "walk") ∈ lw_all := lw_g (lw_at lw_m5 25 rfl) rfl
theorem q1078 : (Jvm.Cond.superclass "ThrowRules" "java/lang/Object") ∈ lw_all := lw_g (lw_at lw_m5 26 rfl) rfl
theorem q1080 : (Jvm.Cond.instanceMethod ({ cls := "ThrowRules", name := "feed", desc := "(IIIII)I" } : Jvm.MethodName)) ∈ lw_all := lw_g (lw_at lw_m5 28 rfl) rfl
theorem q1081 : (Jvm.Cond.selects "ThrowRules" ({ cls := "ThrowRules", name := "feed", desc := "(IIIII)I" } : Jvm.MethodName) ({ cls := "ThrowRules", name := "feed", desc := "(IIIII)I" } : Jvm.MethodName)) ∈ lw_all := lw_g (lw_at lw_m5 29 rfl) rfl
theorem q1082 : (Jvm.Cond.code ({ cls := "ThrowRules", name := "feed", desc := "(IIIII)I" } : Jvm.MethodName) prog_1_method_3_code (6 : Nat) (Option.some Jvm.ClassFile.FieldType.int)) ∈ lw_all := lw_g (lw_at lw_m5 30 rfl) rfl
theorem q1083 : (Jvm.Cond.methodLink "ThrowRules" (38 : Nat) ({ cls := "ThrowRules", name := "put", desc := "(I)V" } : Jvm.MethodName)) ∈ lw_all := lw_g (lw_at lw_m5 31 rfl) rfl
theorem q1084 : (Jvm.Cond.privateMethod ({ cls := "ThrowRules", name := "put", desc := "(I)V" } : Jvm.MethodName)) ∈ lw_tbl := lw_at lw_m5 32 rfl
theorem q1085 : (Jvm.Cond.instanceMethod ({ cls := "ThrowRules", name := "put", desc := "(I)V" } : Jvm.MethodName)) ∈ lw_all := lw_g (lw_at lw_m5 33 rfl) rfl
theorem q1086 : (Jvm.Cond.code ({ cls := "ThrowRules", name := "put", desc := "(I)V" } : Jvm.MethodName) prog_1_method_4_code (3 : Nat) (Option.none : Option Jvm.ClassFile.FieldType)) ∈ lw_all := lw_g (lw_at lw_m5 34 rfl) rfl
theorem q1088 : (Jvm.Cond.instanceMethod ({ cls := "ThrowRules", name := "cut", desc := "(I)I" } : Jvm.MethodName)) ∈ lw_all := lw_g (lw_at lw_m5 36 rfl) rfl
theorem q1089 : (Jvm.Cond.selects "ThrowRules" ({ cls := "ThrowRules", name := "cut", desc := "(I)I" } : Jvm.MethodName) ({ cls := "ThrowRules", name := "cut", desc := "(I)I" } : Jvm.MethodName)) ∈ lw_all := lw_g (lw_at lw_m5 37 rfl) rfl
theorem q1090 : (Jvm.Cond.code ({ cls := "ThrowRules", name := "cut", desc := "(I)I" } : Jvm.MethodName) prog_1_method_5_code (3 : Nat) (Option.some Jvm.ClassFile.FieldType.int)) ∈ lw_all := lw_g (lw_at lw_m5 38 rfl) rfl
theorem q1091 : (Jvm.Cond.methodLink "ThrowRules" (42 : Nat) ({ cls := "ThrowRules", name := "isIn", desc := "(III)Z" } : Jvm.MethodName)) ∈ lw_all := lw_g (lw_at lw_m5 39 rfl) rfl
theorem q1092 : (Jvm.Cond.static ({ cls := "ThrowRules", name := "isIn", desc := "(III)Z" } : Jvm.MethodName)) ∈ lw_all := lw_g (lw_at lw_m5 40 rfl) rfl
theorem q1093 : (Jvm.Cond.code ({ cls := "ThrowRules", name := "isIn", desc := "(III)Z" } : Jvm.MethodName) prog_1_method_2_code (3 : Nat) (Option.some Jvm.ClassFile.FieldType.boolean)) ∈ lw_all := lw_g (lw_at lw_m5 41 rfl) rfl
theorem q1095 : (Jvm.Cond.instanceMethod ({ cls := "ThrowRules", name := "read", desc := "()I" } : Jvm.MethodName)) ∈ lw_all := lw_g (lw_at lw_m5 43 rfl) rfl
theorem q1096 : (Jvm.Cond.selects "ThrowRules" ({ cls := "ThrowRules", name := "read", desc := "()I" } : Jvm.MethodName) ({ cls := "ThrowRules", name := "read", desc := "()I" } : Jvm.MethodName)) ∈ lw_all := lw_g (lw_at lw_m5 44 rfl) rfl
theorem q1097 : (Jvm.Cond.codeWith ({ cls := "ThrowRules", name := "read", desc := "()I" } : Jvm.MethodName) prog_1_method_6_code (3 : Nat) (Option.some Jvm.ClassFile.FieldType.int) [((10 : Nat), (26 : Nat), (29 : Nat), (50 : Nat))]) ∈ lw_all := lw_g (lw_at lw_m5 45 rfl) rfl
theorem q1098 : (Jvm.Cond.classLink "ThrowRules" (50 : Nat) "ThrowRules$Wrong") ∈ lw_all := lw_g (lw_at lw_m5 46 rfl) rfl
theorem q1099 : (Jvm.Cond.methodLink "ThrowRules" (46 : Nat) ({ cls := "ThrowRules$Reader", name := "read", desc := "([BI)LThrowRules$Unit;" } : Jvm.MethodName)) ∈ lw_all := lw_g (lw_at lw_m5 47 rfl) rfl
theorem q1455 : (Jvm.Cond.fieldLinkNest "ThrowRules" (80 : Nat) "ThrowRules$Mistake" "code" "I" "ThrowRules") ∈ lw_tbl := lw_at lw_m6 163 rfl
theorem q1457 : (Jvm.Cond.fieldLinkNest "ThrowRules" (83 : Nat) "ThrowRules$Mistake" "place" "I" "ThrowRules") ∈ lw_tbl := lw_at lw_m6 165 rfl
theorem q1459 : (Jvm.Cond.fieldLinkNest "ThrowRules" (84 : Nat) "ThrowRules$Mistake" "kind" "I" "ThrowRules") ∈ lw_tbl := lw_at lw_m6 167 rfl
theorem q1514 : (Jvm.Cond.fieldLinkNest "ThrowRules" (134 : Nat) "ThrowRules$Method" "number" "I" "ThrowRules") ∈ lw_tbl := lw_at lw_m6 222 rfl
theorem q1516 : (Jvm.Cond.fieldLinkNest "ThrowRules" (106 : Nat) "ThrowRules$Method" "place" "I" "ThrowRules") ∈ lw_tbl := lw_at lw_m6 224 rfl
theorem q1519 : (Jvm.Cond.fieldLinkNest "ThrowRules" (127 : Nat) "ThrowRules$Method" "isFree" "Z" "ThrowRules") ∈ lw_tbl := lw_at lw_m6 227 rfl
theorem q1523 : (Jvm.Cond.fieldLinkNest "ThrowRules" (130 : Nat) "ThrowRules$Method" "overs" "LThrowRules$Method;" "ThrowRules") ∈ lw_tbl := lw_at lw_m6 231 rfl
theorem q1529 : (Jvm.Cond.fieldLinkNest "ThrowRules" (116 : Nat) "ThrowRules$Method" "told" "Ljava/util/ArrayList;" "ThrowRules") ∈ lw_tbl := lw_at lw_m6 237 rfl
theorem q1531 : (Jvm.Cond.fieldLinkNest "ThrowRules" (107 : Nat) "ThrowRules$Method" "body" "LThrowRules$Block;" "ThrowRules") ∈ lw_tbl := lw_at lw_m6 239 rfl
theorem q1628 : (Jvm.Cond.fieldLinkNest "ThrowRules" (111 : Nat) "ThrowRules$Block" "sum" "I" "ThrowRules") ∈ lw_tbl := lw_at lw_m7 96 rfl
theorem q1635 : (Jvm.Cond.fieldLinkNest "ThrowRules" (123 : Nat) "ThrowRules$Block" "isLeft" "Z" "ThrowRules") ∈ lw_tbl := lw_at lw_m7 103 rfl
theorem q1671 : (Jvm.Cond.fieldLink "ThrowRules" (140 : Nat) "ThrowRules$Statement" "place" "I") ∈ lw_all := lw_g (lw_at lw_m7 139 rfl) rfl
theorem q1673 : (Jvm.Cond.fieldLink "ThrowRules" (143 : Nat) "ThrowRules$Statement" "method" "LThrowRules$Method;") ∈ lw_all := lw_g (lw_at lw_m7 141 rfl) rfl
theorem q1677 : (Jvm.Cond.fieldLink "ThrowRules" (141 : Nat) "ThrowRules$Statement" "sum" "I") ∈ lw_all := lw_g (lw_at lw_m7 145 rfl) rfl
theorem q1680 : (Jvm.Cond.fieldLink "ThrowRules" (142 : Nat) "ThrowRules$Statement" "isLeft" "Z") ∈ lw_all := lw_g (lw_at lw_m7 148 rfl) rfl
theorem q2171 : (Jvm.Cond.methodLink "ThrowRules" (59 : Nat) ({ cls := "java/util/ArrayList", name := "size", desc := "()I" } : Jvm.MethodName)) ∈ lw_all := lw_g (lw_at lw_m9 159 rfl) rfl
theorem q2173 : (Jvm.Cond.instanceMethod ({ cls := "ThrowRules", name := "told", desc := "(I)I" } : Jvm.MethodName)) ∈ lw_all := lw_g (lw_at lw_m9 161 rfl) rfl
theorem q2174 : (Jvm.Cond.selects "ThrowRules" ({ cls := "ThrowRules", name := "told", desc := "(I)I" } : Jvm.MethodName) ({ cls := "ThrowRules", name := "told", desc := "(I)I" } : Jvm.MethodName)) ∈ lw_all := lw_g (lw_at lw_m9 162 rfl) rfl
theorem q2175 : (Jvm.Cond.code ({ cls := "ThrowRules", name := "told", desc := "(I)I" } : Jvm.MethodName) prog_1_method_7_code (2 : Nat) (Option.some Jvm.ClassFile.FieldType.int)) ∈ lw_all := lw_g (lw_at lw_m9 163 rfl) rfl
theorem q2177 : (Jvm.Cond.instanceMethod ({ cls := "ThrowRules", name := "mistake", desc := "(II)I" } : Jvm.MethodName)) ∈ lw_all := lw_g (lw_at lw_m9 165 rfl) rfl
theorem q2178 : (Jvm.Cond.selects "ThrowRules" ({ cls := "ThrowRules", name := "mistake", desc := "(II)I" } : Jvm.MethodName) ({ cls := "ThrowRules", name := "mistake", desc := "(II)I" } : Jvm.MethodName)) ∈ lw_all := lw_g (lw_at lw_m9 166 rfl) rfl
theorem q2179 : (Jvm.Cond.code ({ cls := "ThrowRules", name := "mistake", desc := "(II)I" } : Jvm.MethodName) prog_1_method_8_code (4 : Nat) (Option.some Jvm.ClassFile.FieldType.int)) ∈ lw_all := lw_g (lw_at lw_m9 167 rfl) rfl
theorem q2180 : (Jvm.Cond.methodLink "ThrowRules" (74 : Nat) ({ cls := "java/util/ArrayList", name := "get", desc := "(I)Ljava/lang/Object;" } : Jvm.MethodName)) ∈ lw_all := lw_g (lw_at lw_m9 168 rfl) rfl
theorem q2181 : (Jvm.Cond.classLink "ThrowRules" (78 : Nat) "ThrowRules$Mistake") ∈ lw_all := lw_g (lw_at lw_m9 169 rfl) rfl
theorem q2183 : (Jvm.Cond.instanceMethod ({ cls := "ThrowRules", name := "kind", desc := "(II)I" } : Jvm.MethodName)) ∈ lw_all := lw_g (lw_at lw_m9 171 rfl) rfl
theorem q2184 : (Jvm.Cond.selects "ThrowRules" ({ cls := "ThrowRules", name := "kind", desc := "(II)I" } : Jvm.MethodName) ({ cls := "ThrowRules", name := "kind", desc := "(II)I" } : Jvm.MethodName)) ∈ lw_all := lw_g (lw_at lw_m9 172 rfl) rfl
theorem q2185 : (Jvm.Cond.code ({ cls := "ThrowRules", name := "kind", desc := "(II)I" } : Jvm.MethodName) prog_1_method_9_code (4 : Nat) (Option.some Jvm.ClassFile.FieldType.int)) ∈ lw_all := lw_g (lw_at lw_m9 173 rfl) rfl
theorem q2186 : (Jvm.Cond.classLink "ThrowRules" (87 : Nat) "ThrowRules$Kind") ∈ lw_all := lw_g (lw_at lw_m9 174 rfl) rfl
theorem q2187 : (Jvm.Cond.methodLink "ThrowRules" (96 : Nat) ({ cls := "ThrowRules$Unit", name := "isChecked", desc := "(LThrowRules$Kind;)Z" } : Jvm.MethodName)) ∈ lw_all := lw_g (lw_at lw_m9 175 rfl) rfl
theorem q2189 : (Jvm.Cond.instanceMethod ({ cls := "ThrowRules", name := "below", desc := "(II)Z" } : Jvm.MethodName)) ∈ lw_all := lw_g (lw_at lw_m9 177 rfl) rfl
theorem q2190 : (Jvm.Cond.selects "ThrowRules" ({ cls := "ThrowRules", name := "below", desc := "(II)Z" } : Jvm.MethodName) ({ cls := "ThrowRules", name := "below", desc := "(II)Z" } : Jvm.MethodName)) ∈ lw_all := lw_g (lw_at lw_m9 178 rfl) rfl
theorem q2191 : (Jvm.Cond.code ({ cls := "ThrowRules", name := "below", desc := "(II)Z" } : Jvm.MethodName) prog_1_method_10_code (4 : Nat) (Option.some Jvm.ClassFile.FieldType.boolean)) ∈ lw_all := lw_g (lw_at lw_m9 179 rfl) rfl
theorem q2192 : (Jvm.Cond.methodLink "ThrowRules" (101 : Nat) ({ cls := "ThrowRules$Kind", name := "isBelow", desc := "(LThrowRules$Kind;)Z" } : Jvm.MethodName)) ∈ lw_all := lw_g (lw_at lw_m9 180 rfl) rfl
theorem q2194 : (Jvm.Cond.instanceMethod ({ cls := "ThrowRules", name := "method", desc := "(II)I" } : Jvm.MethodName)) ∈ lw_all := lw_g (lw_at lw_m9 182 rfl) rfl
theorem q2195 : (Jvm.Cond.selects "ThrowRules" ({ cls := "ThrowRules", name := "method", desc := "(II)I" } : Jvm.MethodName) ({ cls := "ThrowRules", name := "method", desc := "(II)I" } : Jvm.MethodName)) ∈ lw_all := lw_g (lw_at lw_m9 183 rfl) rfl
theorem q2196 : (Jvm.Cond.code ({ cls := "ThrowRules", name := "method", desc := "(II)I" } : Jvm.MethodName) prog_1_method_11_code (4 : Nat) (Option.some Jvm.ClassFile.FieldType.int)) ∈ lw_all := lw_g (lw_at lw_m9 184 rfl) rfl
theorem q2197 : (Jvm.Cond.classLink "ThrowRules" (104 : Nat) "ThrowRules$Method") ∈ lw_all := lw_g (lw_at lw_m9 185 rfl) rfl
theorem q2198 : (Jvm.Cond.methodLink "ThrowRules" (119 : Nat) ({ cls := "ThrowRules$Unit", name := "bitsOf", desc := "(Ljava/util/ArrayList;)I" } : Jvm.MethodName)) ∈ lw_all := lw_g (lw_at lw_m9 186 rfl) rfl
theorem q2200 : (Jvm.Cond.instanceMethod ({ cls := "ThrowRules", name := "statement", desc := "(II)I" } : Jvm.MethodName)) ∈ lw_all := lw_g (lw_at lw_m9 188 rfl) rfl
theorem q2201 : (Jvm.Cond.selects "ThrowRules" ({ cls := "ThrowRules", name := "statement", desc := "(II)I" } : Jvm.MethodName) ({ cls := "ThrowRules", name := "statement", desc := "(II)I" } : Jvm.MethodName)) ∈ lw_all := lw_g (lw_at lw_m9 189 rfl) rfl
theorem q2202 : (Jvm.Cond.code ({ cls := "ThrowRules", name := "statement", desc := "(II)I" } : Jvm.MethodName) prog_1_method_12_code (4 : Nat) (Option.some Jvm.ClassFile.FieldType.int)) ∈ lw_all := lw_g (lw_at lw_m9 190 rfl) rfl
theorem q2203 : (Jvm.Cond.classLink "ThrowRules" (135 : Nat) "ThrowRules$Statement") ∈ lw_all := lw_g (lw_at lw_m9 191 rfl) rfl
theorem q2204 : (Jvm.Cond.methodLink "ThrowRules" (137 : Nat) ({ cls := "ThrowRules$Statement", name := "sort", desc := "()I" } : Jvm.MethodName)) ∈ lw_all := lw_g (lw_at lw_m9 192 rfl) rfl
theorem q2235 : (Jvm.Cond.instanceMethod ({ cls := "ThrowRules", name := "find", desc := "()I" } : Jvm.MethodName)) ∈ lw_all := lw_g (lw_at lw_m9 223 rfl) rfl
theorem q2236 : (Jvm.Cond.selects "ThrowRules" ({ cls := "ThrowRules", name := "find", desc := "()I" } : Jvm.MethodName) ({ cls := "ThrowRules", name := "find", desc := "()I" } : Jvm.MethodName)) ∈ lw_all := lw_g (lw_at lw_m9 224 rfl) rfl
theorem q2237 : (Jvm.Cond.code ({ cls := "ThrowRules", name := "find", desc := "()I" } : Jvm.MethodName) prog_1_method_13_code (6 : Nat) (Option.some Jvm.ClassFile.FieldType.int)) ∈ lw_all := lw_g (lw_at lw_m9 225 rfl) rfl
theorem q2238 : (Jvm.Cond.classLink "ThrowRules" (146 : Nat) "java/lang/StringBuilder") ∈ lw_all := lw_g (lw_at lw_m9 226 rfl) rfl
theorem q2239 : (Jvm.Cond.methodLink "ThrowRules" (148 : Nat) ({ cls := "java/lang/StringBuilder", name := "<init>", desc := "(I)V" } : Jvm.MethodName)) ∈ lw_all := lw_g (lw_at lw_m9 227 rfl) rfl
theorem q2240 : (Jvm.Cond.methodLink "ThrowRules" (150 : Nat) ({ cls := "java/lang/StringBuilder", name := "append", desc := "(C)Ljava/lang/StringBuilder;" } : Jvm.MethodName)) ∈ lw_all := lw_g (lw_at lw_m9 228 rfl) rfl
theorem q2241 : (Jvm.Cond.methodLink "ThrowRules" (154 : Nat) ({ cls := "java/lang/StringBuilder", name := "toString", desc := "()Ljava/lang/String;" } : Jvm.MethodName)) ∈ lw_all := lw_g (lw_at lw_m9 229 rfl) rfl
theorem q2242 : (Jvm.Cond.methodLink "ThrowRules" (162 : Nat) ({ cls := "java/util/HashMap", name := "get", desc := "(Ljava/lang/Object;)Ljava/lang/Object;" } : Jvm.MethodName)) ∈ lw_all := lw_g (lw_at lw_m9 230 rfl) rfl
theorem q2244 : (Jvm.Cond.instanceMethod ({ cls := "ThrowRules", name := "walk", desc := "(IJ)I" } : Jvm.MethodName)) ∈ lw_all := lw_g (lw_at lw_m9 232 rfl) rfl
theorem q2245 : (Jvm.Cond.selects "ThrowRules" ({ cls := "ThrowRules", name := "walk", desc := "(IJ)I" } : Jvm.MethodName) ({ cls := "ThrowRules", name := "walk", desc := "(IJ)I" } : Jvm.MethodName)) ∈ lw_all := lw_g (lw_at lw_m9 233 rfl) rfl
theorem q2246 : (Jvm.Cond.code ({ cls := "ThrowRules", name := "walk", desc := "(IJ)I" } : Jvm.MethodName) prog_1_method_14_code (4 : Nat) (Option.some Jvm.ClassFile.FieldType.int)) ∈ lw_all := lw_g (lw_at lw_m9 234 rfl) rfl
theorem q2247 : (Jvm.Cond.methodLink "ThrowRules" (170 : Nat) ({ cls := "ThrowRules$Walk", name := "go", desc := "(LThrowRules$Block;J)I" } : Jvm.MethodName)) ∈ lw_all := lw_g (lw_at lw_m9 235 rfl) rfl
theorem q2346 : (Jvm.Cond.instanceMethod ({ cls := "ThrowRules", name := "steps", desc := "()I" } : Jvm.MethodName)) ∈ lw_all := lw_g (lw_at lw_m10 94 rfl) rfl
theorem q2347 : (Jvm.Cond.selects "ThrowRules" ({ cls := "ThrowRules", name := "steps", desc := "()I" } : Jvm.MethodName) ({ cls := "ThrowRules", name := "steps", desc := "()I" } : Jvm.MethodName)) ∈ lw_all := lw_g (lw_at lw_m10 95 rfl) rfl
theorem q2348 : (Jvm.Cond.code ({ cls := "ThrowRules", name := "steps", desc := "()I" } : Jvm.MethodName) prog_1_method_15_code (1 : Nat) (Option.some Jvm.ClassFile.FieldType.int)) ∈ lw_all := lw_g (lw_at lw_m10 96 rfl) rfl
theorem q2935 : (Jvm.Cond.castable "ThrowRules" "java/lang/Object") ∈ lw_tbl := lw_at lw_m12 203 rfl
theorem in_X0 : ∀ w ∈ wsX00, w ∈ lw_all := lw_in wsX00 [1068, 1070, 1072, 1074, 1076] (by decide +kernel) (by decide +kernel)

/-! ThrowRules$Reader -/
set_option maxRecDepth 100000
def RX1 : String := "ThrowRules$Reader"
def TX1 : u_T := fun k => match k with
  | 0 => ("ThrowRules$Reader", "wrong", "LThrowRules$Wrong;", true)
  | 1 => ("ThrowRules$Reader", "text", "[B", false)
  | 2 => ("ThrowRules$Reader", "size", "I", false)
  | 3 => ("ThrowRules$Reader", "at", "I", false)
  | 4 => ("ThrowRules$Reader", "place", "I", false)
  | 5 => ("ThrowRules$Reader", "word", "Ljava/lang/String;", false)
  | 6 => ("ThrowRules$Reader", "sign", "I", false)
  | 7 => ("ThrowRules$Reader", "unit", "LThrowRules$Unit;", false)
  | 8 => ("ThrowRules$Reader", "method", "LThrowRules$Method;", false)
  | 9 => ("ThrowRules$Reader", "nested", "I", false)
  | 10 => ("ThrowRules$Reader", "calls", "Ljava/util/ArrayList;", true)
  | 11 => ("ThrowRules$Reader", "callPlaces", "Ljava/util/ArrayList;", true)
  | 12 => ("ThrowRules$Reader", "tries", "Ljava/util/ArrayList;", true)
  | 13 => ("ThrowRules$Reader", "throwing", "Ljava/util/ArrayList;", true)
  | 14 => ("ThrowRules$Reader", "nameAt", "I", false)
  | 15 => ("ThrowRules$Reader", "parameter", "LThrowRules$Catch;", false)
  | 16 => ("ThrowRules$Reader", "isOutside", "Z", false)
  | _ => ("ThrowRules$Reader", "throwPlaces", "Ljava/util/ArrayList;", true)
def tyX1 : Nat → FieldType := fun k => match k with
  | 0 => .object "ThrowRules$Wrong"
  | 1 => .array .byte
  | 2 => .int
  | 3 => .int
  | 4 => .int
  | 5 => .object "java/lang/String"
  | 6 => .int
  | 7 => .object "ThrowRules$Unit"
  | 8 => .object "ThrowRules$Method"
  | 9 => .int
  | 10 => .object "java/util/ArrayList"
  | 11 => .object "java/util/ArrayList"
  | 12 => .object "java/util/ArrayList"
  | 13 => .object "java/util/ArrayList"
  | 14 => .int
  | 15 => .object "ThrowRules$Catch"
  | 16 => .boolean
  | _ => .object "java/util/ArrayList"
abbrev wsX10 : List Cond := u_ws RX1 TX1 18
set_option maxRecDepth 100000 in
theorem nmX1 : ∀ a, a < 18 → ∀ b, b < 18 → a ≠ b → (TX1 a).2.1 ≠ (TX1 b).2.1 := by decide +kernel
set_option maxRecDepth 100000 in
theorem tyX1_ok : ∀ k, k < 18 → parseFieldDescriptor (TX1 k).2.2.1 = some (tyX1 k) := by decide +kernel
abbrev cX1_init : ByteArray := prog_15_method_1_code
def yX1_init : MethodName := ⟨RX1, "<init>", "()V"⟩
def dkwX1_init_3 : List UInt8 := [181, 0, 34, 177]
abbrev dktX1_init_3 : List UInt8 := dkwX1_init_3 ++ []
def dkwX1_init_2 : List UInt8 := [181, 0, 28, 42, 187, 0, 18, 89, 183, 0, 20, 181, 0, 31, 42, 187, 0, 18, 89, 183, 0, 20]
abbrev dktX1_init_2 : List UInt8 := dkwX1_init_2 ++ dktX1_init_3
def dkwX1_init_1 : List UInt8 := [181, 0, 21, 42, 187, 0, 18, 89, 183, 0, 20, 181, 0, 25, 42, 187, 0, 18, 89, 183, 0, 20]
abbrev dktX1_init_1 : List UInt8 := dkwX1_init_1 ++ dktX1_init_2
def dkwX1_init_0 : List UInt8 := [42, 183, 0, 3, 42, 187, 0, 9, 89, 183, 0, 11, 181, 0, 12, 42, 187, 0, 18, 89, 183, 0, 20]
abbrev dktX1_init_0 : List UInt8 := dkwX1_init_0 ++ dktX1_init_1
theorem dksX1_init_0 : cX1_init.data.toList.drop 0 = dktX1_init_0 := by decide +kernel
theorem dksX1_init_1 : cX1_init.data.toList.drop 23 = dktX1_init_1 := dk_seg dksX1_init_0 23 rfl rfl
theorem dksX1_init_2 : cX1_init.data.toList.drop 45 = dktX1_init_2 := dk_seg dksX1_init_1 22 rfl rfl
theorem dksX1_init_3 : cX1_init.data.toList.drop 67 = dktX1_init_3 := dk_seg dksX1_init_2 22 rfl rfl
theorem dX1_init_0 : decode cX1_init 0 = .ok (.aload_n 0, 1) := dk_42 (dk_at dksX1_init_0 0 rfl rfl)
theorem dX1_init_1 : decode cX1_init 1 = .ok (.invokespecial 3, 3) := dk_183 0 3 (dk_at dksX1_init_0 1 rfl rfl)
theorem dX1_init_4 : decode cX1_init 4 = .ok (.aload_n 0, 1) := dk_42 (dk_at dksX1_init_0 4 rfl rfl)
theorem dX1_init_5 : decode cX1_init 5 = .ok (.new 9, 3) := dk_187 0 9 (dk_at dksX1_init_0 5 rfl rfl)
theorem dX1_init_8 : decode cX1_init 8 = .ok (.dup, 1) := dk_89 (dk_at dksX1_init_0 8 rfl rfl)
theorem dX1_init_9 : decode cX1_init 9 = .ok (.invokespecial 11, 3) := dk_183 0 11 (dk_at dksX1_init_0 9 rfl rfl)
theorem dX1_init_12 : decode cX1_init 12 = .ok (.putfield 12, 3) := dk_181 0 12 (dk_at dksX1_init_0 12 rfl rfl)
theorem dX1_init_15 : decode cX1_init 15 = .ok (.aload_n 0, 1) := dk_42 (dk_at dksX1_init_0 15 rfl rfl)
theorem dX1_init_16 : decode cX1_init 16 = .ok (.new 18, 3) := dk_187 0 18 (dk_at dksX1_init_0 16 rfl rfl)
theorem dX1_init_19 : decode cX1_init 19 = .ok (.dup, 1) := dk_89 (dk_at dksX1_init_0 19 rfl rfl)
theorem dX1_init_20 : decode cX1_init 20 = .ok (.invokespecial 20, 3) := dk_183 0 20 (dk_at dksX1_init_0 20 rfl rfl)
theorem dX1_init_23 : decode cX1_init 23 = .ok (.putfield 21, 3) := dk_181 0 21 (dk_at dksX1_init_1 0 rfl rfl)
theorem dX1_init_26 : decode cX1_init 26 = .ok (.aload_n 0, 1) := dk_42 (dk_at dksX1_init_1 3 rfl rfl)
theorem dX1_init_27 : decode cX1_init 27 = .ok (.new 18, 3) := dk_187 0 18 (dk_at dksX1_init_1 4 rfl rfl)
theorem dX1_init_30 : decode cX1_init 30 = .ok (.dup, 1) := dk_89 (dk_at dksX1_init_1 7 rfl rfl)
theorem dX1_init_31 : decode cX1_init 31 = .ok (.invokespecial 20, 3) := dk_183 0 20 (dk_at dksX1_init_1 8 rfl rfl)
theorem dX1_init_34 : decode cX1_init 34 = .ok (.putfield 25, 3) := dk_181 0 25 (dk_at dksX1_init_1 11 rfl rfl)
theorem dX1_init_37 : decode cX1_init 37 = .ok (.aload_n 0, 1) := dk_42 (dk_at dksX1_init_1 14 rfl rfl)
theorem dX1_init_38 : decode cX1_init 38 = .ok (.new 18, 3) := dk_187 0 18 (dk_at dksX1_init_1 15 rfl rfl)
theorem dX1_init_41 : decode cX1_init 41 = .ok (.dup, 1) := dk_89 (dk_at dksX1_init_1 18 rfl rfl)
theorem dX1_init_42 : decode cX1_init 42 = .ok (.invokespecial 20, 3) := dk_183 0 20 (dk_at dksX1_init_1 19 rfl rfl)
theorem dX1_init_45 : decode cX1_init 45 = .ok (.putfield 28, 3) := dk_181 0 28 (dk_at dksX1_init_2 0 rfl rfl)
theorem dX1_init_48 : decode cX1_init 48 = .ok (.aload_n 0, 1) := dk_42 (dk_at dksX1_init_2 3 rfl rfl)
theorem dX1_init_49 : decode cX1_init 49 = .ok (.new 18, 3) := dk_187 0 18 (dk_at dksX1_init_2 4 rfl rfl)
theorem dX1_init_52 : decode cX1_init 52 = .ok (.dup, 1) := dk_89 (dk_at dksX1_init_2 7 rfl rfl)
theorem dX1_init_53 : decode cX1_init 53 = .ok (.invokespecial 20, 3) := dk_183 0 20 (dk_at dksX1_init_2 8 rfl rfl)
theorem dX1_init_56 : decode cX1_init 56 = .ok (.putfield 31, 3) := dk_181 0 31 (dk_at dksX1_init_2 11 rfl rfl)
theorem dX1_init_59 : decode cX1_init 59 = .ok (.aload_n 0, 1) := dk_42 (dk_at dksX1_init_2 14 rfl rfl)
theorem dX1_init_60 : decode cX1_init 60 = .ok (.new 18, 3) := dk_187 0 18 (dk_at dksX1_init_2 15 rfl rfl)
theorem dX1_init_63 : decode cX1_init 63 = .ok (.dup, 1) := dk_89 (dk_at dksX1_init_2 18 rfl rfl)
theorem dX1_init_64 : decode cX1_init 64 = .ok (.invokespecial 20, 3) := dk_183 0 20 (dk_at dksX1_init_2 19 rfl rfl)
theorem dX1_init_67 : decode cX1_init 67 = .ok (.putfield 34, 3) := dk_181 0 34 (dk_at dksX1_init_3 0 rfl rfl)
theorem dX1_init_70 : decode cX1_init 70 = .ok (.return_, 1) := dk_177 (dk_at dksX1_init_3 3 rfl rfl)
abbrev cX1_read : ByteArray := prog_15_method_11_code
def yX1_read : MethodName := ⟨RX1, "read", "([BI)LThrowRules$Unit;"⟩
def dkwX1_read_6 : List UInt8 := [180, 0, 131, 176]
abbrev dktX1_read_6 : List UInt8 := dkwX1_read_6 ++ []
def dkwX1_read_5 : List UInt8 := [4, 167, 0, 4, 3, 182, 0, 104, 42, 182, 0, 147, 167, 255, 195, 42, 182, 0, 149, 42, 182, 0, 152, 42]
abbrev dktX1_read_5 : List UInt8 := dkwX1_read_5 ++ dktX1_read_6
def dkwX1_read_4 : List UInt8 := [42, 18, 139, 182, 0, 111, 153, 0, 22, 42, 180, 0, 131, 180, 0, 141, 182, 0, 144, 16, 12, 162, 0, 7]
abbrev dktX1_read_4 : List UInt8 := dkwX1_read_4 ++ dktX1_read_5
def dkwX1_read_3 : List UInt8 := [180, 0, 56, 2, 159, 0, 59, 42, 18, 135, 182, 0, 111, 153, 0, 10, 42, 182, 0, 137, 167, 255, 235, 42]
abbrev dktX1_read_3 : List UInt8 := dkwX1_read_3 ++ dktX1_read_4
def dkwX1_read_2 : List UInt8 := [42, 180, 0, 34, 182, 0, 125, 42, 187, 0, 128, 89, 183, 0, 130, 181, 0, 131, 42, 182, 0, 108, 42]
abbrev dktX1_read_2 : List UInt8 := dkwX1_read_2 ++ dktX1_read_3
def dkwX1_read_1 : List UInt8 := [182, 0, 125, 42, 180, 0, 25, 182, 0, 125, 42, 180, 0, 28, 182, 0, 125, 42, 180, 0, 31, 182, 0, 125]
abbrev dktX1_read_1 : List UInt8 := dkwX1_read_1 ++ dktX1_read_2
def dkwX1_read_0 : List UInt8 := [42, 43, 181, 0, 47, 42, 28, 181, 0, 44, 42, 3, 181, 0, 41, 42, 3, 181, 0, 122, 42, 180, 0, 21]
abbrev dktX1_read_0 : List UInt8 := dkwX1_read_0 ++ dktX1_read_1
theorem dksX1_read_0 : cX1_read.data.toList.drop 0 = dktX1_read_0 := by decide +kernel
theorem dksX1_read_1 : cX1_read.data.toList.drop 24 = dktX1_read_1 := dk_seg dksX1_read_0 24 rfl rfl
theorem dksX1_read_2 : cX1_read.data.toList.drop 48 = dktX1_read_2 := dk_seg dksX1_read_1 24 rfl rfl
theorem dksX1_read_3 : cX1_read.data.toList.drop 71 = dktX1_read_3 := dk_seg dksX1_read_2 23 rfl rfl
theorem dksX1_read_4 : cX1_read.data.toList.drop 95 = dktX1_read_4 := dk_seg dksX1_read_3 24 rfl rfl
theorem dksX1_read_5 : cX1_read.data.toList.drop 119 = dktX1_read_5 := dk_seg dksX1_read_4 24 rfl rfl
theorem dksX1_read_6 : cX1_read.data.toList.drop 143 = dktX1_read_6 := dk_seg dksX1_read_5 24 rfl rfl
theorem dX1_read_0 : decode cX1_read 0 = .ok (.aload_n 0, 1) := dk_42 (dk_at dksX1_read_0 0 rfl rfl)
theorem dX1_read_1 : decode cX1_read 1 = .ok (.aload_n 1, 1) := dk_43 (dk_at dksX1_read_0 1 rfl rfl)
theorem dX1_read_2 : decode cX1_read 2 = .ok (.putfield 47, 3) := dk_181 0 47 (dk_at dksX1_read_0 2 rfl rfl)
theorem dX1_read_5 : decode cX1_read 5 = .ok (.aload_n 0, 1) := dk_42 (dk_at dksX1_read_0 5 rfl rfl)
theorem dX1_read_6 : decode cX1_read 6 = .ok (.iload_n 2, 1) := dk_28 (dk_at dksX1_read_0 6 rfl rfl)
theorem dX1_read_7 : decode cX1_read 7 = .ok (.putfield 44, 3) := dk_181 0 44 (dk_at dksX1_read_0 7 rfl rfl)
theorem dX1_read_10 : decode cX1_read 10 = .ok (.aload_n 0, 1) := dk_42 (dk_at dksX1_read_0 10 rfl rfl)
theorem dX1_read_11 : decode cX1_read 11 = .ok (.iconst 0, 1) := dk_3 (dk_at dksX1_read_0 11 rfl rfl)
theorem dX1_read_12 : decode cX1_read 12 = .ok (.putfield 41, 3) := dk_181 0 41 (dk_at dksX1_read_0 12 rfl rfl)
theorem dX1_read_15 : decode cX1_read 15 = .ok (.aload_n 0, 1) := dk_42 (dk_at dksX1_read_0 15 rfl rfl)
theorem dX1_read_16 : decode cX1_read 16 = .ok (.iconst 0, 1) := dk_3 (dk_at dksX1_read_0 16 rfl rfl)
theorem dX1_read_17 : decode cX1_read 17 = .ok (.putfield 122, 3) := dk_181 0 122 (dk_at dksX1_read_0 17 rfl rfl)
theorem dX1_read_20 : decode cX1_read 20 = .ok (.aload_n 0, 1) := dk_42 (dk_at dksX1_read_0 20 rfl rfl)
theorem dX1_read_21 : decode cX1_read 21 = .ok (.getfield 21, 3) := dk_180 0 21 (dk_at dksX1_read_0 21 rfl rfl)
theorem dX1_read_24 : decode cX1_read 24 = .ok (.invokevirtual 125, 3) := dk_182 0 125 (dk_at dksX1_read_1 0 rfl rfl)
theorem dX1_read_27 : decode cX1_read 27 = .ok (.aload_n 0, 1) := dk_42 (dk_at dksX1_read_1 3 rfl rfl)
theorem dX1_read_28 : decode cX1_read 28 = .ok (.getfield 25, 3) := dk_180 0 25 (dk_at dksX1_read_1 4 rfl rfl)
theorem dX1_read_31 : decode cX1_read 31 = .ok (.invokevirtual 125, 3) := dk_182 0 125 (dk_at dksX1_read_1 7 rfl rfl)
theorem dX1_read_34 : decode cX1_read 34 = .ok (.aload_n 0, 1) := dk_42 (dk_at dksX1_read_1 10 rfl rfl)
theorem dX1_read_35 : decode cX1_read 35 = .ok (.getfield 28, 3) := dk_180 0 28 (dk_at dksX1_read_1 11 rfl rfl)
theorem dX1_read_38 : decode cX1_read 38 = .ok (.invokevirtual 125, 3) := dk_182 0 125 (dk_at dksX1_read_1 14 rfl rfl)
theorem dX1_read_41 : decode cX1_read 41 = .ok (.aload_n 0, 1) := dk_42 (dk_at dksX1_read_1 17 rfl rfl)
theorem dX1_read_42 : decode cX1_read 42 = .ok (.getfield 31, 3) := dk_180 0 31 (dk_at dksX1_read_1 18 rfl rfl)
theorem dX1_read_45 : decode cX1_read 45 = .ok (.invokevirtual 125, 3) := dk_182 0 125 (dk_at dksX1_read_1 21 rfl rfl)
theorem dX1_read_48 : decode cX1_read 48 = .ok (.aload_n 0, 1) := dk_42 (dk_at dksX1_read_2 0 rfl rfl)
theorem dX1_read_49 : decode cX1_read 49 = .ok (.getfield 34, 3) := dk_180 0 34 (dk_at dksX1_read_2 1 rfl rfl)
theorem dX1_read_52 : decode cX1_read 52 = .ok (.invokevirtual 125, 3) := dk_182 0 125 (dk_at dksX1_read_2 4 rfl rfl)
theorem dX1_read_55 : decode cX1_read 55 = .ok (.aload_n 0, 1) := dk_42 (dk_at dksX1_read_2 7 rfl rfl)
theorem dX1_read_56 : decode cX1_read 56 = .ok (.new 128, 3) := dk_187 0 128 (dk_at dksX1_read_2 8 rfl rfl)
theorem dX1_read_59 : decode cX1_read 59 = .ok (.dup, 1) := dk_89 (dk_at dksX1_read_2 11 rfl rfl)
theorem dX1_read_60 : decode cX1_read 60 = .ok (.invokespecial 130, 3) := dk_183 0 130 (dk_at dksX1_read_2 12 rfl rfl)
theorem dX1_read_63 : decode cX1_read 63 = .ok (.putfield 131, 3) := dk_181 0 131 (dk_at dksX1_read_2 15 rfl rfl)
theorem dX1_read_66 : decode cX1_read 66 = .ok (.aload_n 0, 1) := dk_42 (dk_at dksX1_read_2 18 rfl rfl)
theorem dX1_read_67 : decode cX1_read 67 = .ok (.invokevirtual 108, 3) := dk_182 0 108 (dk_at dksX1_read_2 19 rfl rfl)
theorem dX1_read_70 : decode cX1_read 70 = .ok (.aload_n 0, 1) := dk_42 (dk_at dksX1_read_2 22 rfl rfl)
theorem dX1_read_71 : decode cX1_read 71 = .ok (.getfield 56, 3) := dk_180 0 56 (dk_at dksX1_read_3 0 rfl rfl)
theorem dX1_read_74 : decode cX1_read 74 = .ok (.iconst (-1), 1) := dk_2 (dk_at dksX1_read_3 3 rfl rfl)
theorem dX1_read_75 : decode cX1_read 75 = .ok (.if_icmp .eq 59, 3) := dk_159 0 59 (dk_at dksX1_read_3 4 rfl rfl)
theorem dX1_read_78 : decode cX1_read 78 = .ok (.aload_n 0, 1) := dk_42 (dk_at dksX1_read_3 7 rfl rfl)
theorem dX1_read_79 : decode cX1_read 79 = .ok (.ldc 135, 2) := dk_18 135 (dk_at dksX1_read_3 8 rfl rfl)
theorem dX1_read_81 : decode cX1_read 81 = .ok (.invokevirtual 111, 3) := dk_182 0 111 (dk_at dksX1_read_3 10 rfl rfl)
theorem dX1_read_84 : decode cX1_read 84 = .ok (.ifCond .eq 10, 3) := dk_153 0 10 (dk_at dksX1_read_3 13 rfl rfl)
theorem dX1_read_87 : decode cX1_read 87 = .ok (.aload_n 0, 1) := dk_42 (dk_at dksX1_read_3 16 rfl rfl)
theorem dX1_read_88 : decode cX1_read 88 = .ok (.invokevirtual 137, 3) := dk_182 0 137 (dk_at dksX1_read_3 17 rfl rfl)
theorem dX1_read_91 : decode cX1_read 91 = .ok (.goto (-21), 3) := dk_167 255 235 (dk_at dksX1_read_3 20 rfl rfl)
theorem dX1_read_94 : decode cX1_read 94 = .ok (.aload_n 0, 1) := dk_42 (dk_at dksX1_read_3 23 rfl rfl)
theorem dX1_read_95 : decode cX1_read 95 = .ok (.aload_n 0, 1) := dk_42 (dk_at dksX1_read_4 0 rfl rfl)
theorem dX1_read_96 : decode cX1_read 96 = .ok (.ldc 139, 2) := dk_18 139 (dk_at dksX1_read_4 1 rfl rfl)
theorem dX1_read_98 : decode cX1_read 98 = .ok (.invokevirtual 111, 3) := dk_182 0 111 (dk_at dksX1_read_4 3 rfl rfl)
theorem dX1_read_101 : decode cX1_read 101 = .ok (.ifCond .eq 22, 3) := dk_153 0 22 (dk_at dksX1_read_4 6 rfl rfl)
theorem dX1_read_104 : decode cX1_read 104 = .ok (.aload_n 0, 1) := dk_42 (dk_at dksX1_read_4 9 rfl rfl)
theorem dX1_read_105 : decode cX1_read 105 = .ok (.getfield 131, 3) := dk_180 0 131 (dk_at dksX1_read_4 10 rfl rfl)
theorem dX1_read_108 : decode cX1_read 108 = .ok (.getfield 141, 3) := dk_180 0 141 (dk_at dksX1_read_4 13 rfl rfl)
theorem dX1_read_111 : decode cX1_read 111 = .ok (.invokevirtual 144, 3) := dk_182 0 144 (dk_at dksX1_read_4 16 rfl rfl)
theorem dX1_read_114 : decode cX1_read 114 = .ok (.bipush 12, 2) := dk_16 12 (dk_at dksX1_read_4 19 rfl rfl)
theorem dX1_read_116 : decode cX1_read 116 = .ok (.if_icmp .ge 7, 3) := dk_162 0 7 (dk_at dksX1_read_4 21 rfl rfl)
theorem dX1_read_119 : decode cX1_read 119 = .ok (.iconst 1, 1) := dk_4 (dk_at dksX1_read_5 0 rfl rfl)
theorem dX1_read_120 : decode cX1_read 120 = .ok (.goto 4, 3) := dk_167 0 4 (dk_at dksX1_read_5 1 rfl rfl)
theorem dX1_read_123 : decode cX1_read 123 = .ok (.iconst 0, 1) := dk_3 (dk_at dksX1_read_5 4 rfl rfl)
theorem dX1_read_124 : decode cX1_read 124 = .ok (.invokevirtual 104, 3) := dk_182 0 104 (dk_at dksX1_read_5 5 rfl rfl)
theorem dX1_read_127 : decode cX1_read 127 = .ok (.aload_n 0, 1) := dk_42 (dk_at dksX1_read_5 8 rfl rfl)
theorem dX1_read_128 : decode cX1_read 128 = .ok (.invokevirtual 147, 3) := dk_182 0 147 (dk_at dksX1_read_5 9 rfl rfl)
theorem dX1_read_131 : decode cX1_read 131 = .ok (.goto (-61), 3) := dk_167 255 195 (dk_at dksX1_read_5 12 rfl rfl)
theorem dX1_read_134 : decode cX1_read 134 = .ok (.aload_n 0, 1) := dk_42 (dk_at dksX1_read_5 15 rfl rfl)
theorem dX1_read_135 : decode cX1_read 135 = .ok (.invokevirtual 149, 3) := dk_182 0 149 (dk_at dksX1_read_5 16 rfl rfl)
theorem dX1_read_138 : decode cX1_read 138 = .ok (.aload_n 0, 1) := dk_42 (dk_at dksX1_read_5 19 rfl rfl)
theorem dX1_read_139 : decode cX1_read 139 = .ok (.invokevirtual 152, 3) := dk_182 0 152 (dk_at dksX1_read_5 20 rfl rfl)
theorem dX1_read_142 : decode cX1_read 142 = .ok (.aload_n 0, 1) := dk_42 (dk_at dksX1_read_5 23 rfl rfl)
theorem dX1_read_143 : decode cX1_read 143 = .ok (.getfield 131, 3) := dk_180 0 131 (dk_at dksX1_read_6 0 rfl rfl)
theorem dX1_read_146 : decode cX1_read 146 = .ok (.areturn, 1) := dk_176 (dk_at dksX1_read_6 3 rfl rfl)
abbrev cX1_next : ByteArray := prog_15_method_4_code
def yX1_next : MethodName := ⟨RX1, "next", "()V"⟩
def dkwX1_next_10 : List UInt8 := [42, 180, 0, 51, 182, 0, 63, 191, 42, 89, 180, 0, 41, 4, 96, 181, 0, 41, 177]
abbrev dktX1_next_10 : List UInt8 := dkwX1_next_10 ++ []
def dkwX1_next_9 : List UInt8 := [180, 0, 47, 42, 180, 0, 41, 51, 181, 0, 56, 18, 80, 42, 180, 0, 56, 182, 0, 82, 156, 0, 12, 42]
abbrev dktX1_next_9 : List UInt8 := dkwX1_next_9 ++ dktX1_next_10
def dkwX1_next_8 : List UInt8 := [181, 0, 52, 42, 3, 181, 0, 56, 42, 89, 180, 0, 41, 27, 96, 181, 0, 41, 167, 0, 47, 42, 42]
abbrev dktX1_next_8 : List UInt8 := dkwX1_next_8 ++ dktX1_next_9
def dkwX1_next_7 : List UInt8 := [180, 0, 41, 29, 96, 51, 146, 182, 0, 72, 87, 132, 3, 1, 167, 255, 231, 42, 44, 182, 0, 76]
abbrev dktX1_next_7 : List UInt8 := dkwX1_next_7 ++ dktX1_next_8
def dkwX1_next_6 : List UInt8 := [187, 0, 67, 89, 27, 183, 0, 69, 77, 3, 62, 29, 27, 162, 0, 26, 44, 42, 180, 0, 47, 42]
abbrev dktX1_next_6 : List UInt8 := dkwX1_next_6 ++ dktX1_next_7
def dkwX1_next_5 : List UInt8 := [167, 255, 223, 27, 16, 8, 164, 0, 12, 42, 42, 180, 0, 51, 182, 0, 63, 191, 27, 158, 0, 68]
abbrev dktX1_next_5 : List UInt8 := dkwX1_next_5 ++ dktX1_next_6
def dkwX1_next_4 : List UInt8 := [162, 0, 26, 42, 180, 0, 47, 42, 180, 0, 41, 27, 96, 51, 184, 0, 59, 153, 0, 9, 132, 1, 1]
abbrev dktX1_next_4 : List UInt8 := dkwX1_next_4 ++ dktX1_next_5
def dkwX1_next_3 : List UInt8 := [42, 180, 0, 41, 42, 180, 0, 44, 160, 0, 4, 177, 3, 60, 42, 180, 0, 41, 27, 96, 42, 180, 0, 44]
abbrev dktX1_next_3 : List UInt8 := dkwX1_next_3 ++ dktX1_next_4
def dkwX1_next_2 : List UInt8 := [181, 0, 41, 167, 255, 207, 42, 42, 180, 0, 41, 181, 0, 51, 42, 1, 181, 0, 52, 42, 2, 181, 0, 56]
abbrev dktX1_next_2 : List UInt8 := dkwX1_next_2 ++ dktX1_next_3
def dkwX1_next_1 : List UInt8 := [159, 0, 17, 42, 180, 0, 47, 42, 180, 0, 41, 51, 16, 10, 160, 0, 16, 42, 89, 180, 0, 41, 4, 96]
abbrev dktX1_next_1 : List UInt8 := dkwX1_next_1 ++ dktX1_next_2
def dkwX1_next_0 : List UInt8 := [42, 180, 0, 41, 42, 180, 0, 44, 162, 0, 44, 42, 180, 0, 47, 42, 180, 0, 41, 51, 16, 32]
abbrev dktX1_next_0 : List UInt8 := dkwX1_next_0 ++ dktX1_next_1
theorem dksX1_next_0 : cX1_next.data.toList.drop 0 = dktX1_next_0 := by decide +kernel
theorem dksX1_next_1 : cX1_next.data.toList.drop 22 = dktX1_next_1 := dk_seg dksX1_next_0 22 rfl rfl
theorem dksX1_next_2 : cX1_next.data.toList.drop 46 = dktX1_next_2 := dk_seg dksX1_next_1 24 rfl rfl
theorem dksX1_next_3 : cX1_next.data.toList.drop 70 = dktX1_next_3 := dk_seg dksX1_next_2 24 rfl rfl
theorem dksX1_next_4 : cX1_next.data.toList.drop 94 = dktX1_next_4 := dk_seg dksX1_next_3 24 rfl rfl
theorem dksX1_next_5 : cX1_next.data.toList.drop 117 = dktX1_next_5 := dk_seg dksX1_next_4 23 rfl rfl
theorem dksX1_next_6 : cX1_next.data.toList.drop 139 = dktX1_next_6 := dk_seg dksX1_next_5 22 rfl rfl
theorem dksX1_next_7 : cX1_next.data.toList.drop 161 = dktX1_next_7 := dk_seg dksX1_next_6 22 rfl rfl
theorem dksX1_next_8 : cX1_next.data.toList.drop 183 = dktX1_next_8 := dk_seg dksX1_next_7 22 rfl rfl
theorem dksX1_next_9 : cX1_next.data.toList.drop 206 = dktX1_next_9 := dk_seg dksX1_next_8 23 rfl rfl
theorem dksX1_next_10 : cX1_next.data.toList.drop 230 = dktX1_next_10 := dk_seg dksX1_next_9 24 rfl rfl
theorem dX1_next_0 : decode cX1_next 0 = .ok (.aload_n 0, 1) := dk_42 (dk_at dksX1_next_0 0 rfl rfl)
theorem dX1_next_1 : decode cX1_next 1 = .ok (.getfield 41, 3) := dk_180 0 41 (dk_at dksX1_next_0 1 rfl rfl)
theorem dX1_next_4 : decode cX1_next 4 = .ok (.aload_n 0, 1) := dk_42 (dk_at dksX1_next_0 4 rfl rfl)
theorem dX1_next_5 : decode cX1_next 5 = .ok (.getfield 44, 3) := dk_180 0 44 (dk_at dksX1_next_0 5 rfl rfl)
theorem dX1_next_8 : decode cX1_next 8 = .ok (.if_icmp .ge 44, 3) := dk_162 0 44 (dk_at dksX1_next_0 8 rfl rfl)
theorem dX1_next_11 : decode cX1_next 11 = .ok (.aload_n 0, 1) := dk_42 (dk_at dksX1_next_0 11 rfl rfl)
theorem dX1_next_12 : decode cX1_next 12 = .ok (.getfield 47, 3) := dk_180 0 47 (dk_at dksX1_next_0 12 rfl rfl)
theorem dX1_next_15 : decode cX1_next 15 = .ok (.aload_n 0, 1) := dk_42 (dk_at dksX1_next_0 15 rfl rfl)
theorem dX1_next_16 : decode cX1_next 16 = .ok (.getfield 41, 3) := dk_180 0 41 (dk_at dksX1_next_0 16 rfl rfl)
theorem dX1_next_19 : decode cX1_next 19 = .ok (.baload, 1) := dk_51 (dk_at dksX1_next_0 19 rfl rfl)
theorem dX1_next_20 : decode cX1_next 20 = .ok (.bipush 32, 2) := dk_16 32 (dk_at dksX1_next_0 20 rfl rfl)
theorem dX1_next_22 : decode cX1_next 22 = .ok (.if_icmp .eq 17, 3) := dk_159 0 17 (dk_at dksX1_next_1 0 rfl rfl)
theorem dX1_next_25 : decode cX1_next 25 = .ok (.aload_n 0, 1) := dk_42 (dk_at dksX1_next_1 3 rfl rfl)
theorem dX1_next_26 : decode cX1_next 26 = .ok (.getfield 47, 3) := dk_180 0 47 (dk_at dksX1_next_1 4 rfl rfl)
theorem dX1_next_29 : decode cX1_next 29 = .ok (.aload_n 0, 1) := dk_42 (dk_at dksX1_next_1 7 rfl rfl)
theorem dX1_next_30 : decode cX1_next 30 = .ok (.getfield 41, 3) := dk_180 0 41 (dk_at dksX1_next_1 8 rfl rfl)
theorem dX1_next_33 : decode cX1_next 33 = .ok (.baload, 1) := dk_51 (dk_at dksX1_next_1 11 rfl rfl)
theorem dX1_next_34 : decode cX1_next 34 = .ok (.bipush 10, 2) := dk_16 10 (dk_at dksX1_next_1 12 rfl rfl)
theorem dX1_next_36 : decode cX1_next 36 = .ok (.if_icmp .ne 16, 3) := dk_160 0 16 (dk_at dksX1_next_1 14 rfl rfl)
theorem dX1_next_39 : decode cX1_next 39 = .ok (.aload_n 0, 1) := dk_42 (dk_at dksX1_next_1 17 rfl rfl)
theorem dX1_next_40 : decode cX1_next 40 = .ok (.dup, 1) := dk_89 (dk_at dksX1_next_1 18 rfl rfl)
theorem dX1_next_41 : decode cX1_next 41 = .ok (.getfield 41, 3) := dk_180 0 41 (dk_at dksX1_next_1 19 rfl rfl)
theorem dX1_next_44 : decode cX1_next 44 = .ok (.iconst 1, 1) := dk_4 (dk_at dksX1_next_1 22 rfl rfl)
theorem dX1_next_45 : decode cX1_next 45 = .ok (.iadd, 1) := dk_96 (dk_at dksX1_next_1 23 rfl rfl)
theorem dX1_next_46 : decode cX1_next 46 = .ok (.putfield 41, 3) := dk_181 0 41 (dk_at dksX1_next_2 0 rfl rfl)
theorem dX1_next_49 : decode cX1_next 49 = .ok (.goto (-49), 3) := dk_167 255 207 (dk_at dksX1_next_2 3 rfl rfl)
theorem dX1_next_52 : decode cX1_next 52 = .ok (.aload_n 0, 1) := dk_42 (dk_at dksX1_next_2 6 rfl rfl)
theorem dX1_next_53 : decode cX1_next 53 = .ok (.aload_n 0, 1) := dk_42 (dk_at dksX1_next_2 7 rfl rfl)
theorem dX1_next_54 : decode cX1_next 54 = .ok (.getfield 41, 3) := dk_180 0 41 (dk_at dksX1_next_2 8 rfl rfl)
theorem dX1_next_57 : decode cX1_next 57 = .ok (.putfield 51, 3) := dk_181 0 51 (dk_at dksX1_next_2 11 rfl rfl)
theorem dX1_next_60 : decode cX1_next 60 = .ok (.aload_n 0, 1) := dk_42 (dk_at dksX1_next_2 14 rfl rfl)
theorem dX1_next_61 : decode cX1_next 61 = .ok (.aconst_null, 1) := dk_1 (dk_at dksX1_next_2 15 rfl rfl)
theorem dX1_next_62 : decode cX1_next 62 = .ok (.putfield 52, 3) := dk_181 0 52 (dk_at dksX1_next_2 16 rfl rfl)
theorem dX1_next_65 : decode cX1_next 65 = .ok (.aload_n 0, 1) := dk_42 (dk_at dksX1_next_2 19 rfl rfl)
theorem dX1_next_66 : decode cX1_next 66 = .ok (.iconst (-1), 1) := dk_2 (dk_at dksX1_next_2 20 rfl rfl)
theorem dX1_next_67 : decode cX1_next 67 = .ok (.putfield 56, 3) := dk_181 0 56 (dk_at dksX1_next_2 21 rfl rfl)
theorem dX1_next_70 : decode cX1_next 70 = .ok (.aload_n 0, 1) := dk_42 (dk_at dksX1_next_3 0 rfl rfl)
theorem dX1_next_71 : decode cX1_next 71 = .ok (.getfield 41, 3) := dk_180 0 41 (dk_at dksX1_next_3 1 rfl rfl)
theorem dX1_next_74 : decode cX1_next 74 = .ok (.aload_n 0, 1) := dk_42 (dk_at dksX1_next_3 4 rfl rfl)
theorem dX1_next_75 : decode cX1_next 75 = .ok (.getfield 44, 3) := dk_180 0 44 (dk_at dksX1_next_3 5 rfl rfl)
theorem dX1_next_78 : decode cX1_next 78 = .ok (.if_icmp .ne 4, 3) := dk_160 0 4 (dk_at dksX1_next_3 8 rfl rfl)
theorem dX1_next_81 : decode cX1_next 81 = .ok (.return_, 1) := dk_177 (dk_at dksX1_next_3 11 rfl rfl)
theorem dX1_next_82 : decode cX1_next 82 = .ok (.iconst 0, 1) := dk_3 (dk_at dksX1_next_3 12 rfl rfl)
theorem dX1_next_83 : decode cX1_next 83 = .ok (.istore_n 1, 1) := dk_60 (dk_at dksX1_next_3 13 rfl rfl)
theorem dX1_next_84 : decode cX1_next 84 = .ok (.aload_n 0, 1) := dk_42 (dk_at dksX1_next_3 14 rfl rfl)
theorem dX1_next_85 : decode cX1_next 85 = .ok (.getfield 41, 3) := dk_180 0 41 (dk_at dksX1_next_3 15 rfl rfl)
theorem dX1_next_88 : decode cX1_next 88 = .ok (.iload_n 1, 1) := dk_27 (dk_at dksX1_next_3 18 rfl rfl)
theorem dX1_next_89 : decode cX1_next 89 = .ok (.iadd, 1) := dk_96 (dk_at dksX1_next_3 19 rfl rfl)
theorem dX1_next_90 : decode cX1_next 90 = .ok (.aload_n 0, 1) := dk_42 (dk_at dksX1_next_3 20 rfl rfl)
theorem dX1_next_91 : decode cX1_next 91 = .ok (.getfield 44, 3) := dk_180 0 44 (dk_at dksX1_next_3 21 rfl rfl)
theorem dX1_next_94 : decode cX1_next 94 = .ok (.if_icmp .ge 26, 3) := dk_162 0 26 (dk_at dksX1_next_4 0 rfl rfl)
theorem dX1_next_97 : decode cX1_next 97 = .ok (.aload_n 0, 1) := dk_42 (dk_at dksX1_next_4 3 rfl rfl)
theorem dX1_next_98 : decode cX1_next 98 = .ok (.getfield 47, 3) := dk_180 0 47 (dk_at dksX1_next_4 4 rfl rfl)
theorem dX1_next_101 : decode cX1_next 101 = .ok (.aload_n 0, 1) := dk_42 (dk_at dksX1_next_4 7 rfl rfl)
theorem dX1_next_102 : decode cX1_next 102 = .ok (.getfield 41, 3) := dk_180 0 41 (dk_at dksX1_next_4 8 rfl rfl)
theorem dX1_next_105 : decode cX1_next 105 = .ok (.iload_n 1, 1) := dk_27 (dk_at dksX1_next_4 11 rfl rfl)
theorem dX1_next_106 : decode cX1_next 106 = .ok (.iadd, 1) := dk_96 (dk_at dksX1_next_4 12 rfl rfl)
theorem dX1_next_107 : decode cX1_next 107 = .ok (.baload, 1) := dk_51 (dk_at dksX1_next_4 13 rfl rfl)
theorem dX1_next_108 : decode cX1_next 108 = .ok (.invokestatic 59, 3) := dk_184 0 59 (dk_at dksX1_next_4 14 rfl rfl)
theorem dX1_next_111 : decode cX1_next 111 = .ok (.ifCond .eq 9, 3) := dk_153 0 9 (dk_at dksX1_next_4 17 rfl rfl)
theorem dX1_next_114 : decode cX1_next 114 = .ok (.iinc 1 1, 3) := dk_132 1 1 (dk_at dksX1_next_4 20 rfl rfl)
theorem dX1_next_117 : decode cX1_next 117 = .ok (.goto (-33), 3) := dk_167 255 223 (dk_at dksX1_next_5 0 rfl rfl)
theorem dX1_next_120 : decode cX1_next 120 = .ok (.iload_n 1, 1) := dk_27 (dk_at dksX1_next_5 3 rfl rfl)
theorem dX1_next_121 : decode cX1_next 121 = .ok (.bipush 8, 2) := dk_16 8 (dk_at dksX1_next_5 4 rfl rfl)
theorem dX1_next_123 : decode cX1_next 123 = .ok (.if_icmp .le 12, 3) := dk_164 0 12 (dk_at dksX1_next_5 6 rfl rfl)
theorem dX1_next_126 : decode cX1_next 126 = .ok (.aload_n 0, 1) := dk_42 (dk_at dksX1_next_5 9 rfl rfl)
theorem dX1_next_127 : decode cX1_next 127 = .ok (.aload_n 0, 1) := dk_42 (dk_at dksX1_next_5 10 rfl rfl)
theorem dX1_next_128 : decode cX1_next 128 = .ok (.getfield 51, 3) := dk_180 0 51 (dk_at dksX1_next_5 11 rfl rfl)
theorem dX1_next_131 : decode cX1_next 131 = .ok (.invokevirtual 63, 3) := dk_182 0 63 (dk_at dksX1_next_5 14 rfl rfl)
theorem dX1_next_134 : decode cX1_next 134 = .ok (.athrow, 1) := dk_191 (dk_at dksX1_next_5 17 rfl rfl)
theorem dX1_next_135 : decode cX1_next 135 = .ok (.iload_n 1, 1) := dk_27 (dk_at dksX1_next_5 18 rfl rfl)
theorem dX1_next_136 : decode cX1_next 136 = .ok (.ifCond .le 68, 3) := dk_158 0 68 (dk_at dksX1_next_5 19 rfl rfl)
theorem dX1_next_139 : decode cX1_next 139 = .ok (.new 67, 3) := dk_187 0 67 (dk_at dksX1_next_6 0 rfl rfl)
theorem dX1_next_142 : decode cX1_next 142 = .ok (.dup, 1) := dk_89 (dk_at dksX1_next_6 3 rfl rfl)
theorem dX1_next_143 : decode cX1_next 143 = .ok (.iload_n 1, 1) := dk_27 (dk_at dksX1_next_6 4 rfl rfl)
theorem dX1_next_144 : decode cX1_next 144 = .ok (.invokespecial 69, 3) := dk_183 0 69 (dk_at dksX1_next_6 5 rfl rfl)
theorem dX1_next_147 : decode cX1_next 147 = .ok (.astore_n 2, 1) := dk_77 (dk_at dksX1_next_6 8 rfl rfl)
theorem dX1_next_148 : decode cX1_next 148 = .ok (.iconst 0, 1) := dk_3 (dk_at dksX1_next_6 9 rfl rfl)
theorem dX1_next_149 : decode cX1_next 149 = .ok (.istore_n 3, 1) := dk_62 (dk_at dksX1_next_6 10 rfl rfl)
theorem dX1_next_150 : decode cX1_next 150 = .ok (.iload_n 3, 1) := dk_29 (dk_at dksX1_next_6 11 rfl rfl)
theorem dX1_next_151 : decode cX1_next 151 = .ok (.iload_n 1, 1) := dk_27 (dk_at dksX1_next_6 12 rfl rfl)
theorem dX1_next_152 : decode cX1_next 152 = .ok (.if_icmp .ge 26, 3) := dk_162 0 26 (dk_at dksX1_next_6 13 rfl rfl)
theorem dX1_next_155 : decode cX1_next 155 = .ok (.aload_n 2, 1) := dk_44 (dk_at dksX1_next_6 16 rfl rfl)
theorem dX1_next_156 : decode cX1_next 156 = .ok (.aload_n 0, 1) := dk_42 (dk_at dksX1_next_6 17 rfl rfl)
theorem dX1_next_157 : decode cX1_next 157 = .ok (.getfield 47, 3) := dk_180 0 47 (dk_at dksX1_next_6 18 rfl rfl)
theorem dX1_next_160 : decode cX1_next 160 = .ok (.aload_n 0, 1) := dk_42 (dk_at dksX1_next_6 21 rfl rfl)
theorem dX1_next_161 : decode cX1_next 161 = .ok (.getfield 41, 3) := dk_180 0 41 (dk_at dksX1_next_7 0 rfl rfl)
theorem dX1_next_164 : decode cX1_next 164 = .ok (.iload_n 3, 1) := dk_29 (dk_at dksX1_next_7 3 rfl rfl)
theorem dX1_next_165 : decode cX1_next 165 = .ok (.iadd, 1) := dk_96 (dk_at dksX1_next_7 4 rfl rfl)
theorem dX1_next_166 : decode cX1_next 166 = .ok (.baload, 1) := dk_51 (dk_at dksX1_next_7 5 rfl rfl)
theorem dX1_next_167 : decode cX1_next 167 = .ok (.i2c, 1) := dk_146 (dk_at dksX1_next_7 6 rfl rfl)
theorem dX1_next_168 : decode cX1_next 168 = .ok (.invokevirtual 72, 3) := dk_182 0 72 (dk_at dksX1_next_7 7 rfl rfl)
theorem dX1_next_171 : decode cX1_next 171 = .ok (.pop, 1) := dk_87 (dk_at dksX1_next_7 10 rfl rfl)
theorem dX1_next_172 : decode cX1_next 172 = .ok (.iinc 3 1, 3) := dk_132 3 1 (dk_at dksX1_next_7 11 rfl rfl)
theorem dX1_next_175 : decode cX1_next 175 = .ok (.goto (-25), 3) := dk_167 255 231 (dk_at dksX1_next_7 14 rfl rfl)
theorem dX1_next_178 : decode cX1_next 178 = .ok (.aload_n 0, 1) := dk_42 (dk_at dksX1_next_7 17 rfl rfl)
theorem dX1_next_179 : decode cX1_next 179 = .ok (.aload_n 2, 1) := dk_44 (dk_at dksX1_next_7 18 rfl rfl)
theorem dX1_next_180 : decode cX1_next 180 = .ok (.invokevirtual 76, 3) := dk_182 0 76 (dk_at dksX1_next_7 19 rfl rfl)
theorem dX1_next_183 : decode cX1_next 183 = .ok (.putfield 52, 3) := dk_181 0 52 (dk_at dksX1_next_8 0 rfl rfl)
theorem dX1_next_186 : decode cX1_next 186 = .ok (.aload_n 0, 1) := dk_42 (dk_at dksX1_next_8 3 rfl rfl)
theorem dX1_next_187 : decode cX1_next 187 = .ok (.iconst 0, 1) := dk_3 (dk_at dksX1_next_8 4 rfl rfl)
theorem dX1_next_188 : decode cX1_next 188 = .ok (.putfield 56, 3) := dk_181 0 56 (dk_at dksX1_next_8 5 rfl rfl)
theorem dX1_next_191 : decode cX1_next 191 = .ok (.aload_n 0, 1) := dk_42 (dk_at dksX1_next_8 8 rfl rfl)
theorem dX1_next_192 : decode cX1_next 192 = .ok (.dup, 1) := dk_89 (dk_at dksX1_next_8 9 rfl rfl)
theorem dX1_next_193 : decode cX1_next 193 = .ok (.getfield 41, 3) := dk_180 0 41 (dk_at dksX1_next_8 10 rfl rfl)
theorem dX1_next_196 : decode cX1_next 196 = .ok (.iload_n 1, 1) := dk_27 (dk_at dksX1_next_8 13 rfl rfl)
theorem dX1_next_197 : decode cX1_next 197 = .ok (.iadd, 1) := dk_96 (dk_at dksX1_next_8 14 rfl rfl)
theorem dX1_next_198 : decode cX1_next 198 = .ok (.putfield 41, 3) := dk_181 0 41 (dk_at dksX1_next_8 15 rfl rfl)
theorem dX1_next_201 : decode cX1_next 201 = .ok (.goto 47, 3) := dk_167 0 47 (dk_at dksX1_next_8 18 rfl rfl)
theorem dX1_next_204 : decode cX1_next 204 = .ok (.aload_n 0, 1) := dk_42 (dk_at dksX1_next_8 21 rfl rfl)
theorem dX1_next_205 : decode cX1_next 205 = .ok (.aload_n 0, 1) := dk_42 (dk_at dksX1_next_8 22 rfl rfl)
theorem dX1_next_206 : decode cX1_next 206 = .ok (.getfield 47, 3) := dk_180 0 47 (dk_at dksX1_next_9 0 rfl rfl)
theorem dX1_next_209 : decode cX1_next 209 = .ok (.aload_n 0, 1) := dk_42 (dk_at dksX1_next_9 3 rfl rfl)
theorem dX1_next_210 : decode cX1_next 210 = .ok (.getfield 41, 3) := dk_180 0 41 (dk_at dksX1_next_9 4 rfl rfl)
theorem dX1_next_213 : decode cX1_next 213 = .ok (.baload, 1) := dk_51 (dk_at dksX1_next_9 7 rfl rfl)
theorem dX1_next_214 : decode cX1_next 214 = .ok (.putfield 56, 3) := dk_181 0 56 (dk_at dksX1_next_9 8 rfl rfl)
theorem dX1_next_217 : decode cX1_next 217 = .ok (.ldc 80, 2) := dk_18 80 (dk_at dksX1_next_9 11 rfl rfl)
theorem dX1_next_219 : decode cX1_next 219 = .ok (.aload_n 0, 1) := dk_42 (dk_at dksX1_next_9 13 rfl rfl)
theorem dX1_next_220 : decode cX1_next 220 = .ok (.getfield 56, 3) := dk_180 0 56 (dk_at dksX1_next_9 14 rfl rfl)
theorem dX1_next_223 : decode cX1_next 223 = .ok (.invokevirtual 82, 3) := dk_182 0 82 (dk_at dksX1_next_9 17 rfl rfl)
theorem dX1_next_226 : decode cX1_next 226 = .ok (.ifCond .ge 12, 3) := dk_156 0 12 (dk_at dksX1_next_9 20 rfl rfl)
theorem dX1_next_229 : decode cX1_next 229 = .ok (.aload_n 0, 1) := dk_42 (dk_at dksX1_next_9 23 rfl rfl)
theorem dX1_next_230 : decode cX1_next 230 = .ok (.aload_n 0, 1) := dk_42 (dk_at dksX1_next_10 0 rfl rfl)
theorem dX1_next_231 : decode cX1_next 231 = .ok (.getfield 51, 3) := dk_180 0 51 (dk_at dksX1_next_10 1 rfl rfl)
theorem dX1_next_234 : decode cX1_next 234 = .ok (.invokevirtual 63, 3) := dk_182 0 63 (dk_at dksX1_next_10 4 rfl rfl)
theorem dX1_next_237 : decode cX1_next 237 = .ok (.athrow, 1) := dk_191 (dk_at dksX1_next_10 7 rfl rfl)
theorem dX1_next_238 : decode cX1_next 238 = .ok (.aload_n 0, 1) := dk_42 (dk_at dksX1_next_10 8 rfl rfl)
theorem dX1_next_239 : decode cX1_next 239 = .ok (.dup, 1) := dk_89 (dk_at dksX1_next_10 9 rfl rfl)
theorem dX1_next_240 : decode cX1_next 240 = .ok (.getfield 41, 3) := dk_180 0 41 (dk_at dksX1_next_10 10 rfl rfl)
theorem dX1_next_243 : decode cX1_next 243 = .ok (.iconst 1, 1) := dk_4 (dk_at dksX1_next_10 13 rfl rfl)
theorem dX1_next_244 : decode cX1_next 244 = .ok (.iadd, 1) := dk_96 (dk_at dksX1_next_10 14 rfl rfl)
theorem dX1_next_245 : decode cX1_next 245 = .ok (.putfield 41, 3) := dk_181 0 41 (dk_at dksX1_next_10 15 rfl rfl)
theorem dX1_next_248 : decode cX1_next 248 = .ok (.return_, 1) := dk_177 (dk_at dksX1_next_10 18 rfl rfl)
abbrev cX1_isLetter : ByteArray := prog_15_method_3_code
def yX1_isLetter : MethodName := ⟨RX1, "isLetter", "(I)Z"⟩
def dkwX1_isLetter_0 : List UInt8 := [26, 16, 97, 161, 0, 13, 26, 16, 122, 163, 0, 7, 4, 167, 0, 4, 3, 172]
abbrev dktX1_isLetter_0 : List UInt8 := dkwX1_isLetter_0 ++ []
theorem dksX1_isLetter_0 : cX1_isLetter.data.toList.drop 0 = dktX1_isLetter_0 := by decide +kernel
theorem dX1_isLetter_0 : decode cX1_isLetter 0 = .ok (.iload_n 0, 1) := dk_26 (dk_at dksX1_isLetter_0 0 rfl rfl)
theorem dX1_isLetter_1 : decode cX1_isLetter 1 = .ok (.bipush 97, 2) := dk_16 97 (dk_at dksX1_isLetter_0 1 rfl rfl)
theorem dX1_isLetter_3 : decode cX1_isLetter 3 = .ok (.if_icmp .lt 13, 3) := dk_161 0 13 (dk_at dksX1_isLetter_0 3 rfl rfl)
theorem dX1_isLetter_6 : decode cX1_isLetter 6 = .ok (.iload_n 0, 1) := dk_26 (dk_at dksX1_isLetter_0 6 rfl rfl)
theorem dX1_isLetter_7 : decode cX1_isLetter 7 = .ok (.bipush 122, 2) := dk_16 122 (dk_at dksX1_isLetter_0 7 rfl rfl)
theorem dX1_isLetter_9 : decode cX1_isLetter 9 = .ok (.if_icmp .gt 7, 3) := dk_163 0 7 (dk_at dksX1_isLetter_0 9 rfl rfl)
theorem dX1_isLetter_12 : decode cX1_isLetter 12 = .ok (.iconst 1, 1) := dk_4 (dk_at dksX1_isLetter_0 12 rfl rfl)
theorem dX1_isLetter_13 : decode cX1_isLetter 13 = .ok (.goto 4, 3) := dk_167 0 4 (dk_at dksX1_isLetter_0 13 rfl rfl)
theorem dX1_isLetter_16 : decode cX1_isLetter 16 = .ok (.iconst 0, 1) := dk_3 (dk_at dksX1_isLetter_0 16 rfl rfl)
theorem dX1_isLetter_17 : decode cX1_isLetter 17 = .ok (.ireturn, 1) := dk_172 (dk_at dksX1_isLetter_0 17 rfl rfl)
abbrev cX1_wrongAt : ByteArray := prog_15_method_2_code
def yX1_wrongAt : MethodName := ⟨RX1, "wrongAt", "(I)LThrowRules$Wrong;"⟩
def dkwX1_wrongAt_0 : List UInt8 := [42, 180, 0, 12, 27, 181, 0, 37, 42, 180, 0, 12, 176]
abbrev dktX1_wrongAt_0 : List UInt8 := dkwX1_wrongAt_0 ++ []
theorem dksX1_wrongAt_0 : cX1_wrongAt.data.toList.drop 0 = dktX1_wrongAt_0 := by decide +kernel
theorem dX1_wrongAt_0 : decode cX1_wrongAt 0 = .ok (.aload_n 0, 1) := dk_42 (dk_at dksX1_wrongAt_0 0 rfl rfl)
theorem dX1_wrongAt_1 : decode cX1_wrongAt 1 = .ok (.getfield 12, 3) := dk_180 0 12 (dk_at dksX1_wrongAt_0 1 rfl rfl)
theorem dX1_wrongAt_4 : decode cX1_wrongAt 4 = .ok (.iload_n 1, 1) := dk_27 (dk_at dksX1_wrongAt_0 4 rfl rfl)
theorem dX1_wrongAt_5 : decode cX1_wrongAt 5 = .ok (.putfield 37, 3) := dk_181 0 37 (dk_at dksX1_wrongAt_0 5 rfl rfl)
theorem dX1_wrongAt_8 : decode cX1_wrongAt 8 = .ok (.aload_n 0, 1) := dk_42 (dk_at dksX1_wrongAt_0 8 rfl rfl)
theorem dX1_wrongAt_9 : decode cX1_wrongAt 9 = .ok (.getfield 12, 3) := dk_180 0 12 (dk_at dksX1_wrongAt_0 9 rfl rfl)
theorem dX1_wrongAt_12 : decode cX1_wrongAt 12 = .ok (.areturn, 1) := dk_176 (dk_at dksX1_wrongAt_0 12 rfl rfl)
abbrev cX1_isWord : ByteArray := prog_15_method_6_code
def yX1_isWord : MethodName := ⟨RX1, "isWord", "(Ljava/lang/String;)Z"⟩
def dkwX1_isWord_0 : List UInt8 := [43, 42, 180, 0, 52, 182, 0, 100, 172]
abbrev dktX1_isWord_0 : List UInt8 := dkwX1_isWord_0 ++ []
theorem dksX1_isWord_0 : cX1_isWord.data.toList.drop 0 = dktX1_isWord_0 := by decide +kernel
theorem dX1_isWord_0 : decode cX1_isWord 0 = .ok (.aload_n 1, 1) := dk_43 (dk_at dksX1_isWord_0 0 rfl rfl)
theorem dX1_isWord_1 : decode cX1_isWord 1 = .ok (.aload_n 0, 1) := dk_42 (dk_at dksX1_isWord_0 1 rfl rfl)
theorem dX1_isWord_2 : decode cX1_isWord 2 = .ok (.getfield 52, 3) := dk_180 0 52 (dk_at dksX1_isWord_0 2 rfl rfl)
theorem dX1_isWord_5 : decode cX1_isWord 5 = .ok (.invokevirtual 100, 3) := dk_182 0 100 (dk_at dksX1_isWord_0 5 rfl rfl)
theorem dX1_isWord_8 : decode cX1_isWord 8 = .ok (.ireturn, 1) := dk_172 (dk_at dksX1_isWord_0 8 rfl rfl)
abbrev cX1_kind : ByteArray := prog_15_method_13_code
def yX1_kind : MethodName := ⟨RX1, "kind", "()V"⟩
def dkwX1_kind_5 : List UInt8 := [167, 0, 5, 25, 5, 28, 182, 0, 195, 87, 177]
abbrev dktX1_kind_5 : List UInt8 := dkwX1_kind_5 ++ []
def dkwX1_kind_4 : List UInt8 := [180, 0, 131, 43, 25, 5, 199, 0, 20, 42, 180, 0, 131, 180, 0, 171, 4, 182, 0, 192, 192, 0, 165]
abbrev dktX1_kind_4 : List UInt8 := dkwX1_kind_4 ++ dktX1_kind_5
def dkwX1_kind_3 : List UInt8 := [180, 0, 131, 180, 0, 155, 43, 182, 0, 189, 153, 0, 13, 42, 180, 0, 131, 5, 28, 2, 182, 0, 167, 42]
abbrev dktX1_kind_3 : List UInt8 := dkwX1_kind_3 ++ dktX1_kind_4
def dkwX1_kind_2 : List UInt8 := [78, 42, 180, 0, 119, 54, 4, 42, 16, 59, 182, 0, 183, 42, 45, 21, 4, 182, 0, 185, 58, 5, 42]
abbrev dktX1_kind_2 : List UInt8 := dkwX1_kind_2 ++ dktX1_kind_3
def dkwX1_kind_1 : List UInt8 := [42, 182, 0, 108, 42, 182, 0, 174, 76, 42, 180, 0, 119, 61, 42, 18, 177, 182, 0, 179, 42, 182, 0, 174]
abbrev dktX1_kind_1 : List UInt8 := dkwX1_kind_1 ++ dktX1_kind_2
def dkwX1_kind_0 : List UInt8 := [42, 42, 180, 0, 131, 180, 0, 171, 182, 0, 144, 16, 16, 162, 0, 7, 4, 167, 0, 4, 3, 182, 0, 104]
abbrev dktX1_kind_0 : List UInt8 := dkwX1_kind_0 ++ dktX1_kind_1
theorem dksX1_kind_0 : cX1_kind.data.toList.drop 0 = dktX1_kind_0 := by decide +kernel
theorem dksX1_kind_1 : cX1_kind.data.toList.drop 24 = dktX1_kind_1 := dk_seg dksX1_kind_0 24 rfl rfl
theorem dksX1_kind_2 : cX1_kind.data.toList.drop 48 = dktX1_kind_2 := dk_seg dksX1_kind_1 24 rfl rfl
theorem dksX1_kind_3 : cX1_kind.data.toList.drop 71 = dktX1_kind_3 := dk_seg dksX1_kind_2 23 rfl rfl
theorem dksX1_kind_4 : cX1_kind.data.toList.drop 95 = dktX1_kind_4 := dk_seg dksX1_kind_3 24 rfl rfl
theorem dksX1_kind_5 : cX1_kind.data.toList.drop 118 = dktX1_kind_5 := dk_seg dksX1_kind_4 23 rfl rfl
theorem dX1_kind_0 : decode cX1_kind 0 = .ok (.aload_n 0, 1) := dk_42 (dk_at dksX1_kind_0 0 rfl rfl)
theorem dX1_kind_1 : decode cX1_kind 1 = .ok (.aload_n 0, 1) := dk_42 (dk_at dksX1_kind_0 1 rfl rfl)
theorem dX1_kind_2 : decode cX1_kind 2 = .ok (.getfield 131, 3) := dk_180 0 131 (dk_at dksX1_kind_0 2 rfl rfl)
theorem dX1_kind_5 : decode cX1_kind 5 = .ok (.getfield 171, 3) := dk_180 0 171 (dk_at dksX1_kind_0 5 rfl rfl)
theorem dX1_kind_8 : decode cX1_kind 8 = .ok (.invokevirtual 144, 3) := dk_182 0 144 (dk_at dksX1_kind_0 8 rfl rfl)
theorem dX1_kind_11 : decode cX1_kind 11 = .ok (.bipush 16, 2) := dk_16 16 (dk_at dksX1_kind_0 11 rfl rfl)
theorem dX1_kind_13 : decode cX1_kind 13 = .ok (.if_icmp .ge 7, 3) := dk_162 0 7 (dk_at dksX1_kind_0 13 rfl rfl)
theorem dX1_kind_16 : decode cX1_kind 16 = .ok (.iconst 1, 1) := dk_4 (dk_at dksX1_kind_0 16 rfl rfl)
theorem dX1_kind_17 : decode cX1_kind 17 = .ok (.goto 4, 3) := dk_167 0 4 (dk_at dksX1_kind_0 17 rfl rfl)
theorem dX1_kind_20 : decode cX1_kind 20 = .ok (.iconst 0, 1) := dk_3 (dk_at dksX1_kind_0 20 rfl rfl)
theorem dX1_kind_21 : decode cX1_kind 21 = .ok (.invokevirtual 104, 3) := dk_182 0 104 (dk_at dksX1_kind_0 21 rfl rfl)
theorem dX1_kind_24 : decode cX1_kind 24 = .ok (.aload_n 0, 1) := dk_42 (dk_at dksX1_kind_1 0 rfl rfl)
theorem dX1_kind_25 : decode cX1_kind 25 = .ok (.invokevirtual 108, 3) := dk_182 0 108 (dk_at dksX1_kind_1 1 rfl rfl)
theorem dX1_kind_28 : decode cX1_kind 28 = .ok (.aload_n 0, 1) := dk_42 (dk_at dksX1_kind_1 4 rfl rfl)
theorem dX1_kind_29 : decode cX1_kind 29 = .ok (.invokevirtual 174, 3) := dk_182 0 174 (dk_at dksX1_kind_1 5 rfl rfl)
theorem dX1_kind_32 : decode cX1_kind 32 = .ok (.astore_n 1, 1) := dk_76 (dk_at dksX1_kind_1 8 rfl rfl)
theorem dX1_kind_33 : decode cX1_kind 33 = .ok (.aload_n 0, 1) := dk_42 (dk_at dksX1_kind_1 9 rfl rfl)
theorem dX1_kind_34 : decode cX1_kind 34 = .ok (.getfield 119, 3) := dk_180 0 119 (dk_at dksX1_kind_1 10 rfl rfl)
theorem dX1_kind_37 : decode cX1_kind 37 = .ok (.istore_n 2, 1) := dk_61 (dk_at dksX1_kind_1 13 rfl rfl)
theorem dX1_kind_38 : decode cX1_kind 38 = .ok (.aload_n 0, 1) := dk_42 (dk_at dksX1_kind_1 14 rfl rfl)
theorem dX1_kind_39 : decode cX1_kind 39 = .ok (.ldc 177, 2) := dk_18 177 (dk_at dksX1_kind_1 15 rfl rfl)
theorem dX1_kind_41 : decode cX1_kind 41 = .ok (.invokevirtual 179, 3) := dk_182 0 179 (dk_at dksX1_kind_1 17 rfl rfl)
theorem dX1_kind_44 : decode cX1_kind 44 = .ok (.aload_n 0, 1) := dk_42 (dk_at dksX1_kind_1 20 rfl rfl)
theorem dX1_kind_45 : decode cX1_kind 45 = .ok (.invokevirtual 174, 3) := dk_182 0 174 (dk_at dksX1_kind_1 21 rfl rfl)
theorem dX1_kind_48 : decode cX1_kind 48 = .ok (.astore_n 3, 1) := dk_78 (dk_at dksX1_kind_2 0 rfl rfl)
theorem dX1_kind_49 : decode cX1_kind 49 = .ok (.aload_n 0, 1) := dk_42 (dk_at dksX1_kind_2 1 rfl rfl)
theorem dX1_kind_50 : decode cX1_kind 50 = .ok (.getfield 119, 3) := dk_180 0 119 (dk_at dksX1_kind_2 2 rfl rfl)
theorem dX1_kind_53 : decode cX1_kind 53 = .ok (.istore 4, 2) := dk_54 4 (dk_at dksX1_kind_2 5 rfl rfl)
theorem dX1_kind_55 : decode cX1_kind 55 = .ok (.aload_n 0, 1) := dk_42 (dk_at dksX1_kind_2 7 rfl rfl)
theorem dX1_kind_56 : decode cX1_kind 56 = .ok (.bipush 59, 2) := dk_16 59 (dk_at dksX1_kind_2 8 rfl rfl)
theorem dX1_kind_58 : decode cX1_kind 58 = .ok (.invokevirtual 183, 3) := dk_182 0 183 (dk_at dksX1_kind_2 10 rfl rfl)
theorem dX1_kind_61 : decode cX1_kind 61 = .ok (.aload_n 0, 1) := dk_42 (dk_at dksX1_kind_2 13 rfl rfl)
theorem dX1_kind_62 : decode cX1_kind 62 = .ok (.aload_n 3, 1) := dk_45 (dk_at dksX1_kind_2 14 rfl rfl)
theorem dX1_kind_63 : decode cX1_kind 63 = .ok (.iload 4, 2) := dk_21 4 (dk_at dksX1_kind_2 15 rfl rfl)
theorem dX1_kind_65 : decode cX1_kind 65 = .ok (.invokevirtual 185, 3) := dk_182 0 185 (dk_at dksX1_kind_2 17 rfl rfl)
theorem dX1_kind_68 : decode cX1_kind 68 = .ok (.astore 5, 2) := dk_58 5 (dk_at dksX1_kind_2 20 rfl rfl)
theorem dX1_kind_70 : decode cX1_kind 70 = .ok (.aload_n 0, 1) := dk_42 (dk_at dksX1_kind_2 22 rfl rfl)
theorem dX1_kind_71 : decode cX1_kind 71 = .ok (.getfield 131, 3) := dk_180 0 131 (dk_at dksX1_kind_3 0 rfl rfl)
theorem dX1_kind_74 : decode cX1_kind 74 = .ok (.getfield 155, 3) := dk_180 0 155 (dk_at dksX1_kind_3 3 rfl rfl)
theorem dX1_kind_77 : decode cX1_kind 77 = .ok (.aload_n 1, 1) := dk_43 (dk_at dksX1_kind_3 6 rfl rfl)
theorem dX1_kind_78 : decode cX1_kind 78 = .ok (.invokevirtual 189, 3) := dk_182 0 189 (dk_at dksX1_kind_3 7 rfl rfl)
theorem dX1_kind_81 : decode cX1_kind 81 = .ok (.ifCond .eq 13, 3) := dk_153 0 13 (dk_at dksX1_kind_3 10 rfl rfl)
theorem dX1_kind_84 : decode cX1_kind 84 = .ok (.aload_n 0, 1) := dk_42 (dk_at dksX1_kind_3 13 rfl rfl)
theorem dX1_kind_85 : decode cX1_kind 85 = .ok (.getfield 131, 3) := dk_180 0 131 (dk_at dksX1_kind_3 14 rfl rfl)
theorem dX1_kind_88 : decode cX1_kind 88 = .ok (.iconst 2, 1) := dk_5 (dk_at dksX1_kind_3 17 rfl rfl)
theorem dX1_kind_89 : decode cX1_kind 89 = .ok (.iload_n 2, 1) := dk_28 (dk_at dksX1_kind_3 18 rfl rfl)
theorem dX1_kind_90 : decode cX1_kind 90 = .ok (.iconst (-1), 1) := dk_2 (dk_at dksX1_kind_3 19 rfl rfl)
theorem dX1_kind_91 : decode cX1_kind 91 = .ok (.invokevirtual 167, 3) := dk_182 0 167 (dk_at dksX1_kind_3 20 rfl rfl)
theorem dX1_kind_94 : decode cX1_kind 94 = .ok (.aload_n 0, 1) := dk_42 (dk_at dksX1_kind_3 23 rfl rfl)
theorem dX1_kind_95 : decode cX1_kind 95 = .ok (.getfield 131, 3) := dk_180 0 131 (dk_at dksX1_kind_4 0 rfl rfl)
theorem dX1_kind_98 : decode cX1_kind 98 = .ok (.aload_n 1, 1) := dk_43 (dk_at dksX1_kind_4 3 rfl rfl)
theorem dX1_kind_99 : decode cX1_kind 99 = .ok (.aload 5, 2) := dk_25 5 (dk_at dksX1_kind_4 4 rfl rfl)
theorem dX1_kind_101 : decode cX1_kind 101 = .ok (.ifnonnull 20, 3) := dk_199 0 20 (dk_at dksX1_kind_4 6 rfl rfl)
theorem dX1_kind_104 : decode cX1_kind 104 = .ok (.aload_n 0, 1) := dk_42 (dk_at dksX1_kind_4 9 rfl rfl)
theorem dX1_kind_105 : decode cX1_kind 105 = .ok (.getfield 131, 3) := dk_180 0 131 (dk_at dksX1_kind_4 10 rfl rfl)
theorem dX1_kind_108 : decode cX1_kind 108 = .ok (.getfield 171, 3) := dk_180 0 171 (dk_at dksX1_kind_4 13 rfl rfl)
theorem dX1_kind_111 : decode cX1_kind 111 = .ok (.iconst 1, 1) := dk_4 (dk_at dksX1_kind_4 16 rfl rfl)
theorem dX1_kind_112 : decode cX1_kind 112 = .ok (.invokevirtual 192, 3) := dk_182 0 192 (dk_at dksX1_kind_4 17 rfl rfl)
theorem dX1_kind_115 : decode cX1_kind 115 = .ok (.checkcast 165, 3) := dk_192 0 165 (dk_at dksX1_kind_4 20 rfl rfl)
theorem dX1_kind_118 : decode cX1_kind 118 = .ok (.goto 5, 3) := dk_167 0 5 (dk_at dksX1_kind_5 0 rfl rfl)
theorem dX1_kind_121 : decode cX1_kind 121 = .ok (.aload 5, 2) := dk_25 5 (dk_at dksX1_kind_5 3 rfl rfl)
theorem dX1_kind_123 : decode cX1_kind 123 = .ok (.iload_n 2, 1) := dk_28 (dk_at dksX1_kind_5 5 rfl rfl)
theorem dX1_kind_124 : decode cX1_kind 124 = .ok (.invokevirtual 195, 3) := dk_182 0 195 (dk_at dksX1_kind_5 6 rfl rfl)
theorem dX1_kind_127 : decode cX1_kind 127 = .ok (.pop, 1) := dk_87 (dk_at dksX1_kind_5 9 rfl rfl)
theorem dX1_kind_128 : decode cX1_kind 128 = .ok (.return_, 1) := dk_177 (dk_at dksX1_kind_5 10 rfl rfl)
abbrev cX1_need : ByteArray := prog_15_method_7_code
def yX1_need : MethodName := ⟨RX1, "need", "(Z)V"⟩
def dkwX1_need_0 : List UInt8 := [27, 154, 0, 12, 42, 42, 180, 0, 51, 182, 0, 63, 191, 177]
abbrev dktX1_need_0 : List UInt8 := dkwX1_need_0 ++ []
theorem dksX1_need_0 : cX1_need.data.toList.drop 0 = dktX1_need_0 := by decide +kernel
theorem dX1_need_0 : decode cX1_need 0 = .ok (.iload_n 1, 1) := dk_27 (dk_at dksX1_need_0 0 rfl rfl)
theorem dX1_need_1 : decode cX1_need 1 = .ok (.ifCond .ne 12, 3) := dk_154 0 12 (dk_at dksX1_need_0 1 rfl rfl)
theorem dX1_need_4 : decode cX1_need 4 = .ok (.aload_n 0, 1) := dk_42 (dk_at dksX1_need_0 4 rfl rfl)
theorem dX1_need_5 : decode cX1_need 5 = .ok (.aload_n 0, 1) := dk_42 (dk_at dksX1_need_0 5 rfl rfl)
theorem dX1_need_6 : decode cX1_need 6 = .ok (.getfield 51, 3) := dk_180 0 51 (dk_at dksX1_need_0 6 rfl rfl)
theorem dX1_need_9 : decode cX1_need 9 = .ok (.invokevirtual 63, 3) := dk_182 0 63 (dk_at dksX1_need_0 9 rfl rfl)
theorem dX1_need_12 : decode cX1_need 12 = .ok (.athrow, 1) := dk_191 (dk_at dksX1_need_0 12 rfl rfl)
theorem dX1_need_13 : decode cX1_need 13 = .ok (.return_, 1) := dk_177 (dk_at dksX1_need_0 13 rfl rfl)
abbrev cX1_name : ByteArray := prog_15_method_10_code
def yX1_name : MethodName := ⟨RX1, "name", "()Ljava/lang/String;"⟩
def dkwX1_name_1 : List UInt8 := [180, 0, 52, 76, 42, 42, 180, 0, 51, 181, 0, 119, 42, 182, 0, 108, 43, 176]
abbrev dktX1_name_1 : List UInt8 := dkwX1_name_1 ++ []
def dkwX1_name_0 : List UInt8 := [42, 42, 180, 0, 52, 198, 0, 14, 42, 182, 0, 115, 154, 0, 7, 4, 167, 0, 4, 3, 182, 0, 104, 42]
abbrev dktX1_name_0 : List UInt8 := dkwX1_name_0 ++ dktX1_name_1
theorem dksX1_name_0 : cX1_name.data.toList.drop 0 = dktX1_name_0 := by decide +kernel
theorem dksX1_name_1 : cX1_name.data.toList.drop 24 = dktX1_name_1 := dk_seg dksX1_name_0 24 rfl rfl
theorem dX1_name_0 : decode cX1_name 0 = .ok (.aload_n 0, 1) := dk_42 (dk_at dksX1_name_0 0 rfl rfl)
theorem dX1_name_1 : decode cX1_name 1 = .ok (.aload_n 0, 1) := dk_42 (dk_at dksX1_name_0 1 rfl rfl)
theorem dX1_name_2 : decode cX1_name 2 = .ok (.getfield 52, 3) := dk_180 0 52 (dk_at dksX1_name_0 2 rfl rfl)
theorem dX1_name_5 : decode cX1_name 5 = .ok (.ifnull 14, 3) := dk_198 0 14 (dk_at dksX1_name_0 5 rfl rfl)
theorem dX1_name_8 : decode cX1_name 8 = .ok (.aload_n 0, 1) := dk_42 (dk_at dksX1_name_0 8 rfl rfl)
theorem dX1_name_9 : decode cX1_name 9 = .ok (.invokevirtual 115, 3) := dk_182 0 115 (dk_at dksX1_name_0 9 rfl rfl)
theorem dX1_name_12 : decode cX1_name 12 = .ok (.ifCond .ne 7, 3) := dk_154 0 7 (dk_at dksX1_name_0 12 rfl rfl)
theorem dX1_name_15 : decode cX1_name 15 = .ok (.iconst 1, 1) := dk_4 (dk_at dksX1_name_0 15 rfl rfl)
theorem dX1_name_16 : decode cX1_name 16 = .ok (.goto 4, 3) := dk_167 0 4 (dk_at dksX1_name_0 16 rfl rfl)
theorem dX1_name_19 : decode cX1_name 19 = .ok (.iconst 0, 1) := dk_3 (dk_at dksX1_name_0 19 rfl rfl)
theorem dX1_name_20 : decode cX1_name 20 = .ok (.invokevirtual 104, 3) := dk_182 0 104 (dk_at dksX1_name_0 20 rfl rfl)
theorem dX1_name_23 : decode cX1_name 23 = .ok (.aload_n 0, 1) := dk_42 (dk_at dksX1_name_0 23 rfl rfl)
theorem dX1_name_24 : decode cX1_name 24 = .ok (.getfield 52, 3) := dk_180 0 52 (dk_at dksX1_name_1 0 rfl rfl)
theorem dX1_name_27 : decode cX1_name 27 = .ok (.astore_n 1, 1) := dk_76 (dk_at dksX1_name_1 3 rfl rfl)
theorem dX1_name_28 : decode cX1_name 28 = .ok (.aload_n 0, 1) := dk_42 (dk_at dksX1_name_1 4 rfl rfl)
theorem dX1_name_29 : decode cX1_name 29 = .ok (.aload_n 0, 1) := dk_42 (dk_at dksX1_name_1 5 rfl rfl)
theorem dX1_name_30 : decode cX1_name 30 = .ok (.getfield 51, 3) := dk_180 0 51 (dk_at dksX1_name_1 6 rfl rfl)
theorem dX1_name_33 : decode cX1_name 33 = .ok (.putfield 119, 3) := dk_181 0 119 (dk_at dksX1_name_1 9 rfl rfl)
theorem dX1_name_36 : decode cX1_name 36 = .ok (.aload_n 0, 1) := dk_42 (dk_at dksX1_name_1 12 rfl rfl)
theorem dX1_name_37 : decode cX1_name 37 = .ok (.invokevirtual 108, 3) := dk_182 0 108 (dk_at dksX1_name_1 13 rfl rfl)
theorem dX1_name_40 : decode cX1_name 40 = .ok (.aload_n 1, 1) := dk_43 (dk_at dksX1_name_1 16 rfl rfl)
theorem dX1_name_41 : decode cX1_name 41 = .ok (.areturn, 1) := dk_176 (dk_at dksX1_name_1 17 rfl rfl)
abbrev cX1_isKey : ByteArray := prog_15_method_5_code
def yX1_isKey : MethodName := ⟨RX1, "isKey", "()Z"⟩
def dkwX1_isKey_2 : List UInt8 := [3, 172]
abbrev dktX1_isKey_2 : List UInt8 := dkwX1_isKey_2 ++ []
def dkwX1_isKey_1 : List UInt8 := [180, 0, 52, 182, 0, 93, 18, 91, 182, 0, 93, 182, 0, 76, 182, 0, 96, 153, 0, 7, 4, 167, 0, 4]
abbrev dktX1_isKey_1 : List UInt8 := dkwX1_isKey_1 ++ dktX1_isKey_2
def dkwX1_isKey_0 : List UInt8 := [42, 180, 0, 52, 198, 0, 42, 18, 88, 187, 0, 67, 89, 183, 0, 90, 18, 91, 182, 0, 93, 42]
abbrev dktX1_isKey_0 : List UInt8 := dkwX1_isKey_0 ++ dktX1_isKey_1
theorem dksX1_isKey_0 : cX1_isKey.data.toList.drop 0 = dktX1_isKey_0 := by decide +kernel
theorem dksX1_isKey_1 : cX1_isKey.data.toList.drop 22 = dktX1_isKey_1 := dk_seg dksX1_isKey_0 22 rfl rfl
theorem dksX1_isKey_2 : cX1_isKey.data.toList.drop 46 = dktX1_isKey_2 := dk_seg dksX1_isKey_1 24 rfl rfl
theorem dX1_isKey_0 : decode cX1_isKey 0 = .ok (.aload_n 0, 1) := dk_42 (dk_at dksX1_isKey_0 0 rfl rfl)
theorem dX1_isKey_1 : decode cX1_isKey 1 = .ok (.getfield 52, 3) := dk_180 0 52 (dk_at dksX1_isKey_0 1 rfl rfl)
theorem dX1_isKey_4 : decode cX1_isKey 4 = .ok (.ifnull 42, 3) := dk_198 0 42 (dk_at dksX1_isKey_0 4 rfl rfl)
theorem dX1_isKey_7 : decode cX1_isKey 7 = .ok (.ldc 88, 2) := dk_18 88 (dk_at dksX1_isKey_0 7 rfl rfl)
theorem dX1_isKey_9 : decode cX1_isKey 9 = .ok (.new 67, 3) := dk_187 0 67 (dk_at dksX1_isKey_0 9 rfl rfl)
theorem dX1_isKey_12 : decode cX1_isKey 12 = .ok (.dup, 1) := dk_89 (dk_at dksX1_isKey_0 12 rfl rfl)
theorem dX1_isKey_13 : decode cX1_isKey 13 = .ok (.invokespecial 90, 3) := dk_183 0 90 (dk_at dksX1_isKey_0 13 rfl rfl)
theorem dX1_isKey_16 : decode cX1_isKey 16 = .ok (.ldc 91, 2) := dk_18 91 (dk_at dksX1_isKey_0 16 rfl rfl)
theorem dX1_isKey_18 : decode cX1_isKey 18 = .ok (.invokevirtual 93, 3) := dk_182 0 93 (dk_at dksX1_isKey_0 18 rfl rfl)
theorem dX1_isKey_21 : decode cX1_isKey 21 = .ok (.aload_n 0, 1) := dk_42 (dk_at dksX1_isKey_0 21 rfl rfl)
theorem dX1_isKey_22 : decode cX1_isKey 22 = .ok (.getfield 52, 3) := dk_180 0 52 (dk_at dksX1_isKey_1 0 rfl rfl)
theorem dX1_isKey_25 : decode cX1_isKey 25 = .ok (.invokevirtual 93, 3) := dk_182 0 93 (dk_at dksX1_isKey_1 3 rfl rfl)
theorem dX1_isKey_28 : decode cX1_isKey 28 = .ok (.ldc 91, 2) := dk_18 91 (dk_at dksX1_isKey_1 6 rfl rfl)
theorem dX1_isKey_30 : decode cX1_isKey 30 = .ok (.invokevirtual 93, 3) := dk_182 0 93 (dk_at dksX1_isKey_1 8 rfl rfl)
theorem dX1_isKey_33 : decode cX1_isKey 33 = .ok (.invokevirtual 76, 3) := dk_182 0 76 (dk_at dksX1_isKey_1 11 rfl rfl)
theorem dX1_isKey_36 : decode cX1_isKey 36 = .ok (.invokevirtual 96, 3) := dk_182 0 96 (dk_at dksX1_isKey_1 14 rfl rfl)
theorem dX1_isKey_39 : decode cX1_isKey 39 = .ok (.ifCond .eq 7, 3) := dk_153 0 7 (dk_at dksX1_isKey_1 17 rfl rfl)
theorem dX1_isKey_42 : decode cX1_isKey 42 = .ok (.iconst 1, 1) := dk_4 (dk_at dksX1_isKey_1 20 rfl rfl)
theorem dX1_isKey_43 : decode cX1_isKey 43 = .ok (.goto 4, 3) := dk_167 0 4 (dk_at dksX1_isKey_1 21 rfl rfl)
theorem dX1_isKey_46 : decode cX1_isKey 46 = .ok (.iconst 0, 1) := dk_3 (dk_at dksX1_isKey_2 0 rfl rfl)
theorem dX1_isKey_47 : decode cX1_isKey 47 = .ok (.ireturn, 1) := dk_172 (dk_at dksX1_isKey_2 1 rfl rfl)
abbrev cX1_want : ByteArray := prog_15_method_9_code
def yX1_want : MethodName := ⟨RX1, "want", "(Ljava/lang/String;)V"⟩
def dkwX1_want_0 : List UInt8 := [42, 42, 43, 182, 0, 111, 182, 0, 104, 42, 182, 0, 108, 177]
abbrev dktX1_want_0 : List UInt8 := dkwX1_want_0 ++ []
theorem dksX1_want_0 : cX1_want.data.toList.drop 0 = dktX1_want_0 := by decide +kernel
theorem dX1_want_0 : decode cX1_want 0 = .ok (.aload_n 0, 1) := dk_42 (dk_at dksX1_want_0 0 rfl rfl)
theorem dX1_want_1 : decode cX1_want 1 = .ok (.aload_n 0, 1) := dk_42 (dk_at dksX1_want_0 1 rfl rfl)
theorem dX1_want_2 : decode cX1_want 2 = .ok (.aload_n 1, 1) := dk_43 (dk_at dksX1_want_0 2 rfl rfl)
theorem dX1_want_3 : decode cX1_want 3 = .ok (.invokevirtual 111, 3) := dk_182 0 111 (dk_at dksX1_want_0 3 rfl rfl)
theorem dX1_want_6 : decode cX1_want 6 = .ok (.invokevirtual 104, 3) := dk_182 0 104 (dk_at dksX1_want_0 6 rfl rfl)
theorem dX1_want_9 : decode cX1_want 9 = .ok (.aload_n 0, 1) := dk_42 (dk_at dksX1_want_0 9 rfl rfl)
theorem dX1_want_10 : decode cX1_want 10 = .ok (.invokevirtual 108, 3) := dk_182 0 108 (dk_at dksX1_want_0 10 rfl rfl)
theorem dX1_want_13 : decode cX1_want 13 = .ok (.return_, 1) := dk_177 (dk_at dksX1_want_0 13 rfl rfl)
abbrev cX1_want_2 : ByteArray := prog_15_method_8_code
def yX1_want_2 : MethodName := ⟨RX1, "want", "(I)V"⟩
def dkwX1_want_2_0 : List UInt8 := [42, 42, 180, 0, 56, 27, 160, 0, 7, 4, 167, 0, 4, 3, 182, 0, 104, 42, 182, 0, 108, 177]
abbrev dktX1_want_2_0 : List UInt8 := dkwX1_want_2_0 ++ []
theorem dksX1_want_2_0 : cX1_want_2.data.toList.drop 0 = dktX1_want_2_0 := by decide +kernel
theorem dX1_want_2_0 : decode cX1_want_2 0 = .ok (.aload_n 0, 1) := dk_42 (dk_at dksX1_want_2_0 0 rfl rfl)
theorem dX1_want_2_1 : decode cX1_want_2 1 = .ok (.aload_n 0, 1) := dk_42 (dk_at dksX1_want_2_0 1 rfl rfl)
theorem dX1_want_2_2 : decode cX1_want_2 2 = .ok (.getfield 56, 3) := dk_180 0 56 (dk_at dksX1_want_2_0 2 rfl rfl)
theorem dX1_want_2_5 : decode cX1_want_2 5 = .ok (.iload_n 1, 1) := dk_27 (dk_at dksX1_want_2_0 5 rfl rfl)
theorem dX1_want_2_6 : decode cX1_want_2 6 = .ok (.if_icmp .ne 7, 3) := dk_160 0 7 (dk_at dksX1_want_2_0 6 rfl rfl)
theorem dX1_want_2_9 : decode cX1_want_2 9 = .ok (.iconst 1, 1) := dk_4 (dk_at dksX1_want_2_0 9 rfl rfl)
theorem dX1_want_2_10 : decode cX1_want_2 10 = .ok (.goto 4, 3) := dk_167 0 4 (dk_at dksX1_want_2_0 10 rfl rfl)
theorem dX1_want_2_13 : decode cX1_want_2 13 = .ok (.iconst 0, 1) := dk_3 (dk_at dksX1_want_2_0 13 rfl rfl)
theorem dX1_want_2_14 : decode cX1_want_2 14 = .ok (.invokevirtual 104, 3) := dk_182 0 104 (dk_at dksX1_want_2_0 14 rfl rfl)
theorem dX1_want_2_17 : decode cX1_want_2 17 = .ok (.aload_n 0, 1) := dk_42 (dk_at dksX1_want_2_0 17 rfl rfl)
theorem dX1_want_2_18 : decode cX1_want_2 18 = .ok (.invokevirtual 108, 3) := dk_182 0 108 (dk_at dksX1_want_2_0 18 rfl rfl)
theorem dX1_want_2_21 : decode cX1_want_2 21 = .ok (.return_, 1) := dk_177 (dk_at dksX1_want_2_0 21 rfl rfl)
abbrev cX1_known : ByteArray := prog_15_method_12_code
def yX1_known : MethodName := ⟨RX1, "known", "(Ljava/lang/String;I)LThrowRules$Kind;"⟩
def dkwX1_known_1 : List UInt8 := [28, 2, 182, 0, 167, 45, 176]
abbrev dktX1_known_1 : List UInt8 := dkwX1_known_1 ++ []
def dkwX1_known_0 : List UInt8 := [42, 180, 0, 131, 180, 0, 155, 43, 182, 0, 159, 192, 0, 165, 78, 45, 199, 0, 13, 42, 180, 0, 131, 4]
abbrev dktX1_known_0 : List UInt8 := dkwX1_known_0 ++ dktX1_known_1
theorem dksX1_known_0 : cX1_known.data.toList.drop 0 = dktX1_known_0 := by decide +kernel
theorem dksX1_known_1 : cX1_known.data.toList.drop 24 = dktX1_known_1 := dk_seg dksX1_known_0 24 rfl rfl
theorem dX1_known_0 : decode cX1_known 0 = .ok (.aload_n 0, 1) := dk_42 (dk_at dksX1_known_0 0 rfl rfl)
theorem dX1_known_1 : decode cX1_known 1 = .ok (.getfield 131, 3) := dk_180 0 131 (dk_at dksX1_known_0 1 rfl rfl)
theorem dX1_known_4 : decode cX1_known 4 = .ok (.getfield 155, 3) := dk_180 0 155 (dk_at dksX1_known_0 4 rfl rfl)
theorem dX1_known_7 : decode cX1_known 7 = .ok (.aload_n 1, 1) := dk_43 (dk_at dksX1_known_0 7 rfl rfl)
theorem dX1_known_8 : decode cX1_known 8 = .ok (.invokevirtual 159, 3) := dk_182 0 159 (dk_at dksX1_known_0 8 rfl rfl)
theorem dX1_known_11 : decode cX1_known 11 = .ok (.checkcast 165, 3) := dk_192 0 165 (dk_at dksX1_known_0 11 rfl rfl)
theorem dX1_known_14 : decode cX1_known 14 = .ok (.astore_n 3, 1) := dk_78 (dk_at dksX1_known_0 14 rfl rfl)
theorem dX1_known_15 : decode cX1_known 15 = .ok (.aload_n 3, 1) := dk_45 (dk_at dksX1_known_0 15 rfl rfl)
theorem dX1_known_16 : decode cX1_known 16 = .ok (.ifnonnull 13, 3) := dk_199 0 13 (dk_at dksX1_known_0 16 rfl rfl)
theorem dX1_known_19 : decode cX1_known 19 = .ok (.aload_n 0, 1) := dk_42 (dk_at dksX1_known_0 19 rfl rfl)
theorem dX1_known_20 : decode cX1_known 20 = .ok (.getfield 131, 3) := dk_180 0 131 (dk_at dksX1_known_0 20 rfl rfl)
theorem dX1_known_23 : decode cX1_known 23 = .ok (.iconst 1, 1) := dk_4 (dk_at dksX1_known_0 23 rfl rfl)
theorem dX1_known_24 : decode cX1_known 24 = .ok (.iload_n 2, 1) := dk_28 (dk_at dksX1_known_1 0 rfl rfl)
theorem dX1_known_25 : decode cX1_known 25 = .ok (.iconst (-1), 1) := dk_2 (dk_at dksX1_known_1 1 rfl rfl)
theorem dX1_known_26 : decode cX1_known 26 = .ok (.invokevirtual 167, 3) := dk_182 0 167 (dk_at dksX1_known_1 2 rfl rfl)
theorem dX1_known_29 : decode cX1_known 29 = .ok (.aload_n 3, 1) := dk_45 (dk_at dksX1_known_1 5 rfl rfl)
theorem dX1_known_30 : decode cX1_known 30 = .ok (.areturn, 1) := dk_176 (dk_at dksX1_known_1 6 rfl rfl)
abbrev cX1_way : ByteArray := prog_15_method_14_code
def yX1_way : MethodName := ⟨RX1, "way", "()V"⟩
def dkwX1_way_7 : List UInt8 := [44, 42, 187, 0, 237, 89, 1, 183, 0, 239, 182, 0, 242, 181, 0, 246, 177]
abbrev dktX1_way_7 : List UInt8 := dkwX1_way_7 ++ []
def dkwX1_way_6 : List UInt8 := [44, 42, 182, 0, 230, 181, 0, 234, 42, 180, 0, 56, 16, 59, 160, 0, 10, 42, 182, 0, 108, 167, 0, 19]
abbrev dktX1_way_6 : List UInt8 := dkwX1_way_6 ++ dktX1_way_7
def dkwX1_way_5 : List UInt8 := [180, 0, 119, 181, 0, 221, 42, 18, 224, 182, 0, 111, 153, 0, 12, 42, 182, 0, 108, 44, 4, 181, 0, 226]
abbrev dktX1_way_5 : List UInt8 := dkwX1_way_5 ++ dktX1_way_6
def dkwX1_way_4 : List UInt8 := [87, 42, 18, 217, 182, 0, 111, 153, 0, 23, 42, 182, 0, 108, 44, 42, 182, 0, 174, 181, 0, 219, 44, 42]
abbrev dktX1_way_4 : List UInt8 := dkwX1_way_4 ++ dktX1_way_5
def dkwX1_way_3 : List UInt8 := [180, 0, 141, 44, 182, 0, 211, 87, 29, 154, 0, 16, 42, 180, 0, 131, 180, 0, 208, 43, 44, 182, 0, 213]
abbrev dktX1_way_3 : List UInt8 := dkwX1_way_3 ++ dktX1_way_4
def dkwX1_way_2 : List UInt8 := [62, 29, 153, 0, 16, 42, 180, 0, 131, 5, 42, 180, 0, 119, 2, 182, 0, 167, 42, 180, 0, 131]
abbrev dktX1_way_2 : List UInt8 := dkwX1_way_2 ++ dktX1_way_3
def dkwX1_way_1 : List UInt8 := [42, 180, 0, 119, 183, 0, 201, 77, 42, 44, 181, 0, 204, 42, 180, 0, 131, 180, 0, 208, 43, 182, 0, 189]
abbrev dktX1_way_1 : List UInt8 := dkwX1_way_1 ++ dktX1_way_2
def dkwX1_way_0 : List UInt8 := [42, 182, 0, 108, 42, 182, 0, 174, 76, 187, 0, 199, 89, 43, 42, 180, 0, 131, 180, 0, 141, 182, 0, 144]
abbrev dktX1_way_0 : List UInt8 := dkwX1_way_0 ++ dktX1_way_1
theorem dksX1_way_0 : cX1_way.data.toList.drop 0 = dktX1_way_0 := by decide +kernel
theorem dksX1_way_1 : cX1_way.data.toList.drop 24 = dktX1_way_1 := dk_seg dksX1_way_0 24 rfl rfl
theorem dksX1_way_2 : cX1_way.data.toList.drop 48 = dktX1_way_2 := dk_seg dksX1_way_1 24 rfl rfl
theorem dksX1_way_3 : cX1_way.data.toList.drop 70 = dktX1_way_3 := dk_seg dksX1_way_2 22 rfl rfl
theorem dksX1_way_4 : cX1_way.data.toList.drop 94 = dktX1_way_4 := dk_seg dksX1_way_3 24 rfl rfl
theorem dksX1_way_5 : cX1_way.data.toList.drop 118 = dktX1_way_5 := dk_seg dksX1_way_4 24 rfl rfl
theorem dksX1_way_6 : cX1_way.data.toList.drop 142 = dktX1_way_6 := dk_seg dksX1_way_5 24 rfl rfl
theorem dksX1_way_7 : cX1_way.data.toList.drop 166 = dktX1_way_7 := dk_seg dksX1_way_6 24 rfl rfl
theorem dX1_way_0 : decode cX1_way 0 = .ok (.aload_n 0, 1) := dk_42 (dk_at dksX1_way_0 0 rfl rfl)
theorem dX1_way_1 : decode cX1_way 1 = .ok (.invokevirtual 108, 3) := dk_182 0 108 (dk_at dksX1_way_0 1 rfl rfl)
theorem dX1_way_4 : decode cX1_way 4 = .ok (.aload_n 0, 1) := dk_42 (dk_at dksX1_way_0 4 rfl rfl)
theorem dX1_way_5 : decode cX1_way 5 = .ok (.invokevirtual 174, 3) := dk_182 0 174 (dk_at dksX1_way_0 5 rfl rfl)
theorem dX1_way_8 : decode cX1_way 8 = .ok (.astore_n 1, 1) := dk_76 (dk_at dksX1_way_0 8 rfl rfl)
theorem dX1_way_9 : decode cX1_way 9 = .ok (.new 199, 3) := dk_187 0 199 (dk_at dksX1_way_0 9 rfl rfl)
theorem dX1_way_12 : decode cX1_way 12 = .ok (.dup, 1) := dk_89 (dk_at dksX1_way_0 12 rfl rfl)
theorem dX1_way_13 : decode cX1_way 13 = .ok (.aload_n 1, 1) := dk_43 (dk_at dksX1_way_0 13 rfl rfl)
theorem dX1_way_14 : decode cX1_way 14 = .ok (.aload_n 0, 1) := dk_42 (dk_at dksX1_way_0 14 rfl rfl)
theorem dX1_way_15 : decode cX1_way 15 = .ok (.getfield 131, 3) := dk_180 0 131 (dk_at dksX1_way_0 15 rfl rfl)
theorem dX1_way_18 : decode cX1_way 18 = .ok (.getfield 141, 3) := dk_180 0 141 (dk_at dksX1_way_0 18 rfl rfl)
theorem dX1_way_21 : decode cX1_way 21 = .ok (.invokevirtual 144, 3) := dk_182 0 144 (dk_at dksX1_way_0 21 rfl rfl)
theorem dX1_way_24 : decode cX1_way 24 = .ok (.aload_n 0, 1) := dk_42 (dk_at dksX1_way_1 0 rfl rfl)
theorem dX1_way_25 : decode cX1_way 25 = .ok (.getfield 119, 3) := dk_180 0 119 (dk_at dksX1_way_1 1 rfl rfl)
theorem dX1_way_28 : decode cX1_way 28 = .ok (.invokespecial 201, 3) := dk_183 0 201 (dk_at dksX1_way_1 4 rfl rfl)
theorem dX1_way_31 : decode cX1_way 31 = .ok (.astore_n 2, 1) := dk_77 (dk_at dksX1_way_1 7 rfl rfl)
theorem dX1_way_32 : decode cX1_way 32 = .ok (.aload_n 0, 1) := dk_42 (dk_at dksX1_way_1 8 rfl rfl)
theorem dX1_way_33 : decode cX1_way 33 = .ok (.aload_n 2, 1) := dk_44 (dk_at dksX1_way_1 9 rfl rfl)
theorem dX1_way_34 : decode cX1_way 34 = .ok (.putfield 204, 3) := dk_181 0 204 (dk_at dksX1_way_1 10 rfl rfl)
theorem dX1_way_37 : decode cX1_way 37 = .ok (.aload_n 0, 1) := dk_42 (dk_at dksX1_way_1 13 rfl rfl)
theorem dX1_way_38 : decode cX1_way 38 = .ok (.getfield 131, 3) := dk_180 0 131 (dk_at dksX1_way_1 14 rfl rfl)
theorem dX1_way_41 : decode cX1_way 41 = .ok (.getfield 208, 3) := dk_180 0 208 (dk_at dksX1_way_1 17 rfl rfl)
theorem dX1_way_44 : decode cX1_way 44 = .ok (.aload_n 1, 1) := dk_43 (dk_at dksX1_way_1 20 rfl rfl)
theorem dX1_way_45 : decode cX1_way 45 = .ok (.invokevirtual 189, 3) := dk_182 0 189 (dk_at dksX1_way_1 21 rfl rfl)
theorem dX1_way_48 : decode cX1_way 48 = .ok (.istore_n 3, 1) := dk_62 (dk_at dksX1_way_2 0 rfl rfl)
theorem dX1_way_49 : decode cX1_way 49 = .ok (.iload_n 3, 1) := dk_29 (dk_at dksX1_way_2 1 rfl rfl)
theorem dX1_way_50 : decode cX1_way 50 = .ok (.ifCond .eq 16, 3) := dk_153 0 16 (dk_at dksX1_way_2 2 rfl rfl)
theorem dX1_way_53 : decode cX1_way 53 = .ok (.aload_n 0, 1) := dk_42 (dk_at dksX1_way_2 5 rfl rfl)
theorem dX1_way_54 : decode cX1_way 54 = .ok (.getfield 131, 3) := dk_180 0 131 (dk_at dksX1_way_2 6 rfl rfl)
theorem dX1_way_57 : decode cX1_way 57 = .ok (.iconst 2, 1) := dk_5 (dk_at dksX1_way_2 9 rfl rfl)
theorem dX1_way_58 : decode cX1_way 58 = .ok (.aload_n 0, 1) := dk_42 (dk_at dksX1_way_2 10 rfl rfl)
theorem dX1_way_59 : decode cX1_way 59 = .ok (.getfield 119, 3) := dk_180 0 119 (dk_at dksX1_way_2 11 rfl rfl)
theorem dX1_way_62 : decode cX1_way 62 = .ok (.iconst (-1), 1) := dk_2 (dk_at dksX1_way_2 14 rfl rfl)
theorem dX1_way_63 : decode cX1_way 63 = .ok (.invokevirtual 167, 3) := dk_182 0 167 (dk_at dksX1_way_2 15 rfl rfl)
theorem dX1_way_66 : decode cX1_way 66 = .ok (.aload_n 0, 1) := dk_42 (dk_at dksX1_way_2 18 rfl rfl)
theorem dX1_way_67 : decode cX1_way 67 = .ok (.getfield 131, 3) := dk_180 0 131 (dk_at dksX1_way_2 19 rfl rfl)
theorem dX1_way_70 : decode cX1_way 70 = .ok (.getfield 141, 3) := dk_180 0 141 (dk_at dksX1_way_3 0 rfl rfl)
theorem dX1_way_73 : decode cX1_way 73 = .ok (.aload_n 2, 1) := dk_44 (dk_at dksX1_way_3 3 rfl rfl)
theorem dX1_way_74 : decode cX1_way 74 = .ok (.invokevirtual 211, 3) := dk_182 0 211 (dk_at dksX1_way_3 4 rfl rfl)
theorem dX1_way_77 : decode cX1_way 77 = .ok (.pop, 1) := dk_87 (dk_at dksX1_way_3 7 rfl rfl)
theorem dX1_way_78 : decode cX1_way 78 = .ok (.iload_n 3, 1) := dk_29 (dk_at dksX1_way_3 8 rfl rfl)
theorem dX1_way_79 : decode cX1_way 79 = .ok (.ifCond .ne 16, 3) := dk_154 0 16 (dk_at dksX1_way_3 9 rfl rfl)
theorem dX1_way_82 : decode cX1_way 82 = .ok (.aload_n 0, 1) := dk_42 (dk_at dksX1_way_3 12 rfl rfl)
theorem dX1_way_83 : decode cX1_way 83 = .ok (.getfield 131, 3) := dk_180 0 131 (dk_at dksX1_way_3 13 rfl rfl)
theorem dX1_way_86 : decode cX1_way 86 = .ok (.getfield 208, 3) := dk_180 0 208 (dk_at dksX1_way_3 16 rfl rfl)
theorem dX1_way_89 : decode cX1_way 89 = .ok (.aload_n 1, 1) := dk_43 (dk_at dksX1_way_3 19 rfl rfl)
theorem dX1_way_90 : decode cX1_way 90 = .ok (.aload_n 2, 1) := dk_44 (dk_at dksX1_way_3 20 rfl rfl)
theorem dX1_way_91 : decode cX1_way 91 = .ok (.invokevirtual 213, 3) := dk_182 0 213 (dk_at dksX1_way_3 21 rfl rfl)
theorem dX1_way_94 : decode cX1_way 94 = .ok (.pop, 1) := dk_87 (dk_at dksX1_way_4 0 rfl rfl)
theorem dX1_way_95 : decode cX1_way 95 = .ok (.aload_n 0, 1) := dk_42 (dk_at dksX1_way_4 1 rfl rfl)
theorem dX1_way_96 : decode cX1_way 96 = .ok (.ldc 217, 2) := dk_18 217 (dk_at dksX1_way_4 2 rfl rfl)
theorem dX1_way_98 : decode cX1_way 98 = .ok (.invokevirtual 111, 3) := dk_182 0 111 (dk_at dksX1_way_4 4 rfl rfl)
theorem dX1_way_101 : decode cX1_way 101 = .ok (.ifCond .eq 23, 3) := dk_153 0 23 (dk_at dksX1_way_4 7 rfl rfl)
theorem dX1_way_104 : decode cX1_way 104 = .ok (.aload_n 0, 1) := dk_42 (dk_at dksX1_way_4 10 rfl rfl)
theorem dX1_way_105 : decode cX1_way 105 = .ok (.invokevirtual 108, 3) := dk_182 0 108 (dk_at dksX1_way_4 11 rfl rfl)
theorem dX1_way_108 : decode cX1_way 108 = .ok (.aload_n 2, 1) := dk_44 (dk_at dksX1_way_4 14 rfl rfl)
theorem dX1_way_109 : decode cX1_way 109 = .ok (.aload_n 0, 1) := dk_42 (dk_at dksX1_way_4 15 rfl rfl)
theorem dX1_way_110 : decode cX1_way 110 = .ok (.invokevirtual 174, 3) := dk_182 0 174 (dk_at dksX1_way_4 16 rfl rfl)
theorem dX1_way_113 : decode cX1_way 113 = .ok (.putfield 219, 3) := dk_181 0 219 (dk_at dksX1_way_4 19 rfl rfl)
theorem dX1_way_116 : decode cX1_way 116 = .ok (.aload_n 2, 1) := dk_44 (dk_at dksX1_way_4 22 rfl rfl)
theorem dX1_way_117 : decode cX1_way 117 = .ok (.aload_n 0, 1) := dk_42 (dk_at dksX1_way_4 23 rfl rfl)
theorem dX1_way_118 : decode cX1_way 118 = .ok (.getfield 119, 3) := dk_180 0 119 (dk_at dksX1_way_5 0 rfl rfl)
theorem dX1_way_121 : decode cX1_way 121 = .ok (.putfield 221, 3) := dk_181 0 221 (dk_at dksX1_way_5 3 rfl rfl)
theorem dX1_way_124 : decode cX1_way 124 = .ok (.aload_n 0, 1) := dk_42 (dk_at dksX1_way_5 6 rfl rfl)
theorem dX1_way_125 : decode cX1_way 125 = .ok (.ldc 224, 2) := dk_18 224 (dk_at dksX1_way_5 7 rfl rfl)
theorem dX1_way_127 : decode cX1_way 127 = .ok (.invokevirtual 111, 3) := dk_182 0 111 (dk_at dksX1_way_5 9 rfl rfl)
theorem dX1_way_130 : decode cX1_way 130 = .ok (.ifCond .eq 12, 3) := dk_153 0 12 (dk_at dksX1_way_5 12 rfl rfl)
theorem dX1_way_133 : decode cX1_way 133 = .ok (.aload_n 0, 1) := dk_42 (dk_at dksX1_way_5 15 rfl rfl)
theorem dX1_way_134 : decode cX1_way 134 = .ok (.invokevirtual 108, 3) := dk_182 0 108 (dk_at dksX1_way_5 16 rfl rfl)
theorem dX1_way_137 : decode cX1_way 137 = .ok (.aload_n 2, 1) := dk_44 (dk_at dksX1_way_5 19 rfl rfl)
theorem dX1_way_138 : decode cX1_way 138 = .ok (.iconst 1, 1) := dk_4 (dk_at dksX1_way_5 20 rfl rfl)
theorem dX1_way_139 : decode cX1_way 139 = .ok (.putfield 226, 3) := dk_181 0 226 (dk_at dksX1_way_5 21 rfl rfl)
theorem dX1_way_142 : decode cX1_way 142 = .ok (.aload_n 2, 1) := dk_44 (dk_at dksX1_way_6 0 rfl rfl)
theorem dX1_way_143 : decode cX1_way 143 = .ok (.aload_n 0, 1) := dk_42 (dk_at dksX1_way_6 1 rfl rfl)
theorem dX1_way_144 : decode cX1_way 144 = .ok (.invokevirtual 230, 3) := dk_182 0 230 (dk_at dksX1_way_6 2 rfl rfl)
theorem dX1_way_147 : decode cX1_way 147 = .ok (.putfield 234, 3) := dk_181 0 234 (dk_at dksX1_way_6 5 rfl rfl)
theorem dX1_way_150 : decode cX1_way 150 = .ok (.aload_n 0, 1) := dk_42 (dk_at dksX1_way_6 8 rfl rfl)
theorem dX1_way_151 : decode cX1_way 151 = .ok (.getfield 56, 3) := dk_180 0 56 (dk_at dksX1_way_6 9 rfl rfl)
theorem dX1_way_154 : decode cX1_way 154 = .ok (.bipush 59, 2) := dk_16 59 (dk_at dksX1_way_6 12 rfl rfl)
theorem dX1_way_156 : decode cX1_way 156 = .ok (.if_icmp .ne 10, 3) := dk_160 0 10 (dk_at dksX1_way_6 14 rfl rfl)
theorem dX1_way_159 : decode cX1_way 159 = .ok (.aload_n 0, 1) := dk_42 (dk_at dksX1_way_6 17 rfl rfl)
theorem dX1_way_160 : decode cX1_way 160 = .ok (.invokevirtual 108, 3) := dk_182 0 108 (dk_at dksX1_way_6 18 rfl rfl)
theorem dX1_way_163 : decode cX1_way 163 = .ok (.goto 19, 3) := dk_167 0 19 (dk_at dksX1_way_6 21 rfl rfl)
theorem dX1_way_166 : decode cX1_way 166 = .ok (.aload_n 2, 1) := dk_44 (dk_at dksX1_way_7 0 rfl rfl)
theorem dX1_way_167 : decode cX1_way 167 = .ok (.aload_n 0, 1) := dk_42 (dk_at dksX1_way_7 1 rfl rfl)
theorem dX1_way_168 : decode cX1_way 168 = .ok (.new 237, 3) := dk_187 0 237 (dk_at dksX1_way_7 2 rfl rfl)
theorem dX1_way_171 : decode cX1_way 171 = .ok (.dup, 1) := dk_89 (dk_at dksX1_way_7 5 rfl rfl)
theorem dX1_way_172 : decode cX1_way 172 = .ok (.aconst_null, 1) := dk_1 (dk_at dksX1_way_7 6 rfl rfl)
theorem dX1_way_173 : decode cX1_way 173 = .ok (.invokespecial 239, 3) := dk_183 0 239 (dk_at dksX1_way_7 7 rfl rfl)
theorem dX1_way_176 : decode cX1_way 176 = .ok (.invokevirtual 242, 3) := dk_182 0 242 (dk_at dksX1_way_7 10 rfl rfl)
theorem dX1_way_179 : decode cX1_way 179 = .ok (.putfield 246, 3) := dk_181 0 246 (dk_at dksX1_way_7 13 rfl rfl)
theorem dX1_way_182 : decode cX1_way 182 = .ok (.return_, 1) := dk_177 (dk_at dksX1_way_7 16 rfl rfl)
abbrev cX1_throwsList : ByteArray := prog_15_method_15_code
def yX1_throwsList : MethodName := ⟨RX1, "throwsList", "()Ljava/util/ArrayList;"⟩
def dkwX1_throwsList_3 : List UInt8 := [180, 0, 56, 16, 44, 159, 255, 199, 43, 176]
abbrev dktX1_throwsList_3 : List UInt8 := dkwX1_throwsList_3 ++ []
def dkwX1_throwsList_2 : List UInt8 := [89, 42, 44, 42, 180, 0, 119, 182, 0, 185, 42, 180, 0, 119, 183, 0, 255, 182, 0, 211, 87, 42]
abbrev dktX1_throwsList_2 : List UInt8 := dkwX1_throwsList_2 ++ dktX1_throwsList_3
def dkwX1_throwsList_1 : List UInt8 := [182, 0, 144, 7, 162, 0, 7, 4, 167, 0, 4, 3, 182, 0, 104, 42, 182, 0, 174, 77, 43, 187, 0, 253]
abbrev dktX1_throwsList_1 : List UInt8 := dkwX1_throwsList_1 ++ dktX1_throwsList_2
def dkwX1_throwsList_0 : List UInt8 := [187, 0, 18, 89, 5, 183, 0, 250, 76, 42, 18, 251, 182, 0, 111, 153, 0, 63, 42, 182, 0, 108, 42, 43]
abbrev dktX1_throwsList_0 : List UInt8 := dkwX1_throwsList_0 ++ dktX1_throwsList_1
theorem dksX1_throwsList_0 : cX1_throwsList.data.toList.drop 0 = dktX1_throwsList_0 := by decide +kernel
theorem dksX1_throwsList_1 : cX1_throwsList.data.toList.drop 24 = dktX1_throwsList_1 := dk_seg dksX1_throwsList_0 24 rfl rfl
theorem dksX1_throwsList_2 : cX1_throwsList.data.toList.drop 48 = dktX1_throwsList_2 := dk_seg dksX1_throwsList_1 24 rfl rfl
theorem dksX1_throwsList_3 : cX1_throwsList.data.toList.drop 70 = dktX1_throwsList_3 := dk_seg dksX1_throwsList_2 22 rfl rfl
theorem dX1_throwsList_0 : decode cX1_throwsList 0 = .ok (.new 18, 3) := dk_187 0 18 (dk_at dksX1_throwsList_0 0 rfl rfl)
theorem dX1_throwsList_3 : decode cX1_throwsList 3 = .ok (.dup, 1) := dk_89 (dk_at dksX1_throwsList_0 3 rfl rfl)
theorem dX1_throwsList_4 : decode cX1_throwsList 4 = .ok (.iconst 2, 1) := dk_5 (dk_at dksX1_throwsList_0 4 rfl rfl)
theorem dX1_throwsList_5 : decode cX1_throwsList 5 = .ok (.invokespecial 250, 3) := dk_183 0 250 (dk_at dksX1_throwsList_0 5 rfl rfl)
theorem dX1_throwsList_8 : decode cX1_throwsList 8 = .ok (.astore_n 1, 1) := dk_76 (dk_at dksX1_throwsList_0 8 rfl rfl)
theorem dX1_throwsList_9 : decode cX1_throwsList 9 = .ok (.aload_n 0, 1) := dk_42 (dk_at dksX1_throwsList_0 9 rfl rfl)
theorem dX1_throwsList_10 : decode cX1_throwsList 10 = .ok (.ldc 251, 2) := dk_18 251 (dk_at dksX1_throwsList_0 10 rfl rfl)
theorem dX1_throwsList_12 : decode cX1_throwsList 12 = .ok (.invokevirtual 111, 3) := dk_182 0 111 (dk_at dksX1_throwsList_0 12 rfl rfl)
theorem dX1_throwsList_15 : decode cX1_throwsList 15 = .ok (.ifCond .eq 63, 3) := dk_153 0 63 (dk_at dksX1_throwsList_0 15 rfl rfl)
theorem dX1_throwsList_18 : decode cX1_throwsList 18 = .ok (.aload_n 0, 1) := dk_42 (dk_at dksX1_throwsList_0 18 rfl rfl)
theorem dX1_throwsList_19 : decode cX1_throwsList 19 = .ok (.invokevirtual 108, 3) := dk_182 0 108 (dk_at dksX1_throwsList_0 19 rfl rfl)
theorem dX1_throwsList_22 : decode cX1_throwsList 22 = .ok (.aload_n 0, 1) := dk_42 (dk_at dksX1_throwsList_0 22 rfl rfl)
theorem dX1_throwsList_23 : decode cX1_throwsList 23 = .ok (.aload_n 1, 1) := dk_43 (dk_at dksX1_throwsList_0 23 rfl rfl)
theorem dX1_throwsList_24 : decode cX1_throwsList 24 = .ok (.invokevirtual 144, 3) := dk_182 0 144 (dk_at dksX1_throwsList_1 0 rfl rfl)
theorem dX1_throwsList_27 : decode cX1_throwsList 27 = .ok (.iconst 4, 1) := dk_7 (dk_at dksX1_throwsList_1 3 rfl rfl)
theorem dX1_throwsList_28 : decode cX1_throwsList 28 = .ok (.if_icmp .ge 7, 3) := dk_162 0 7 (dk_at dksX1_throwsList_1 4 rfl rfl)
theorem dX1_throwsList_31 : decode cX1_throwsList 31 = .ok (.iconst 1, 1) := dk_4 (dk_at dksX1_throwsList_1 7 rfl rfl)
theorem dX1_throwsList_32 : decode cX1_throwsList 32 = .ok (.goto 4, 3) := dk_167 0 4 (dk_at dksX1_throwsList_1 8 rfl rfl)
theorem dX1_throwsList_35 : decode cX1_throwsList 35 = .ok (.iconst 0, 1) := dk_3 (dk_at dksX1_throwsList_1 11 rfl rfl)
theorem dX1_throwsList_36 : decode cX1_throwsList 36 = .ok (.invokevirtual 104, 3) := dk_182 0 104 (dk_at dksX1_throwsList_1 12 rfl rfl)
theorem dX1_throwsList_39 : decode cX1_throwsList 39 = .ok (.aload_n 0, 1) := dk_42 (dk_at dksX1_throwsList_1 15 rfl rfl)
theorem dX1_throwsList_40 : decode cX1_throwsList 40 = .ok (.invokevirtual 174, 3) := dk_182 0 174 (dk_at dksX1_throwsList_1 16 rfl rfl)
theorem dX1_throwsList_43 : decode cX1_throwsList 43 = .ok (.astore_n 2, 1) := dk_77 (dk_at dksX1_throwsList_1 19 rfl rfl)
theorem dX1_throwsList_44 : decode cX1_throwsList 44 = .ok (.aload_n 1, 1) := dk_43 (dk_at dksX1_throwsList_1 20 rfl rfl)
theorem dX1_throwsList_45 : decode cX1_throwsList 45 = .ok (.new 253, 3) := dk_187 0 253 (dk_at dksX1_throwsList_1 21 rfl rfl)
theorem dX1_throwsList_48 : decode cX1_throwsList 48 = .ok (.dup, 1) := dk_89 (dk_at dksX1_throwsList_2 0 rfl rfl)
theorem dX1_throwsList_49 : decode cX1_throwsList 49 = .ok (.aload_n 0, 1) := dk_42 (dk_at dksX1_throwsList_2 1 rfl rfl)
theorem dX1_throwsList_50 : decode cX1_throwsList 50 = .ok (.aload_n 2, 1) := dk_44 (dk_at dksX1_throwsList_2 2 rfl rfl)
theorem dX1_throwsList_51 : decode cX1_throwsList 51 = .ok (.aload_n 0, 1) := dk_42 (dk_at dksX1_throwsList_2 3 rfl rfl)
theorem dX1_throwsList_52 : decode cX1_throwsList 52 = .ok (.getfield 119, 3) := dk_180 0 119 (dk_at dksX1_throwsList_2 4 rfl rfl)
theorem dX1_throwsList_55 : decode cX1_throwsList 55 = .ok (.invokevirtual 185, 3) := dk_182 0 185 (dk_at dksX1_throwsList_2 7 rfl rfl)
theorem dX1_throwsList_58 : decode cX1_throwsList 58 = .ok (.aload_n 0, 1) := dk_42 (dk_at dksX1_throwsList_2 10 rfl rfl)
theorem dX1_throwsList_59 : decode cX1_throwsList 59 = .ok (.getfield 119, 3) := dk_180 0 119 (dk_at dksX1_throwsList_2 11 rfl rfl)
theorem dX1_throwsList_62 : decode cX1_throwsList 62 = .ok (.invokespecial 255, 3) := dk_183 0 255 (dk_at dksX1_throwsList_2 14 rfl rfl)
theorem dX1_throwsList_65 : decode cX1_throwsList 65 = .ok (.invokevirtual 211, 3) := dk_182 0 211 (dk_at dksX1_throwsList_2 17 rfl rfl)
theorem dX1_throwsList_68 : decode cX1_throwsList 68 = .ok (.pop, 1) := dk_87 (dk_at dksX1_throwsList_2 20 rfl rfl)
theorem dX1_throwsList_69 : decode cX1_throwsList 69 = .ok (.aload_n 0, 1) := dk_42 (dk_at dksX1_throwsList_2 21 rfl rfl)
theorem dX1_throwsList_70 : decode cX1_throwsList 70 = .ok (.getfield 56, 3) := dk_180 0 56 (dk_at dksX1_throwsList_3 0 rfl rfl)
theorem dX1_throwsList_73 : decode cX1_throwsList 73 = .ok (.bipush 44, 2) := dk_16 44 (dk_at dksX1_throwsList_3 3 rfl rfl)
theorem dX1_throwsList_75 : decode cX1_throwsList 75 = .ok (.if_icmp .eq (-57), 3) := dk_159 255 199 (dk_at dksX1_throwsList_3 5 rfl rfl)
theorem dX1_throwsList_78 : decode cX1_throwsList 78 = .ok (.aload_n 1, 1) := dk_43 (dk_at dksX1_throwsList_3 8 rfl rfl)
theorem dX1_throwsList_79 : decode cX1_throwsList 79 = .ok (.areturn, 1) := dk_176 (dk_at dksX1_throwsList_3 9 rfl rfl)
abbrev cX1_block : ByteArray := prog_15_method_16_code
def yX1_block : MethodName := ⟨RX1, "block", "(LThrowRules$Around;)LThrowRules$Block;"⟩
def dkwX1_block_4 : List UInt8 := [181, 0, 122, 44, 176]
abbrev dktX1_block_4 : List UInt8 := dkwX1_block_4 ++ []
def dkwX1_block_3 : List UInt8 := [43, 182, 1, 9, 182, 0, 211, 87, 167, 255, 234, 42, 182, 0, 108, 42, 89, 180, 0, 122, 4, 100]
abbrev dktX1_block_3 : List UInt8 := dkwX1_block_3 ++ dktX1_block_4
def dkwX1_block_2 : List UInt8 := [180, 0, 51, 181, 1, 5, 42, 182, 0, 108, 42, 180, 0, 56, 16, 125, 159, 0, 19, 44, 180, 1, 6, 42]
abbrev dktX1_block_2 : List UInt8 := dkwX1_block_2 ++ dktX1_block_3
def dkwX1_block_1 : List UInt8 := [182, 0, 104, 42, 89, 180, 0, 122, 4, 96, 181, 0, 122, 187, 1, 2, 89, 183, 1, 4, 77, 44, 42]
abbrev dktX1_block_1 : List UInt8 := dkwX1_block_1 ++ dktX1_block_2
def dkwX1_block_0 : List UInt8 := [42, 42, 180, 0, 56, 16, 123, 160, 0, 16, 42, 180, 0, 122, 16, 8, 162, 0, 7, 4, 167, 0, 4, 3]
abbrev dktX1_block_0 : List UInt8 := dkwX1_block_0 ++ dktX1_block_1
theorem dksX1_block_0 : cX1_block.data.toList.drop 0 = dktX1_block_0 := by decide +kernel
theorem dksX1_block_1 : cX1_block.data.toList.drop 24 = dktX1_block_1 := dk_seg dksX1_block_0 24 rfl rfl
theorem dksX1_block_2 : cX1_block.data.toList.drop 47 = dktX1_block_2 := dk_seg dksX1_block_1 23 rfl rfl
theorem dksX1_block_3 : cX1_block.data.toList.drop 71 = dktX1_block_3 := dk_seg dksX1_block_2 24 rfl rfl
theorem dksX1_block_4 : cX1_block.data.toList.drop 93 = dktX1_block_4 := dk_seg dksX1_block_3 22 rfl rfl
theorem dX1_block_0 : decode cX1_block 0 = .ok (.aload_n 0, 1) := dk_42 (dk_at dksX1_block_0 0 rfl rfl)
theorem dX1_block_1 : decode cX1_block 1 = .ok (.aload_n 0, 1) := dk_42 (dk_at dksX1_block_0 1 rfl rfl)
theorem dX1_block_2 : decode cX1_block 2 = .ok (.getfield 56, 3) := dk_180 0 56 (dk_at dksX1_block_0 2 rfl rfl)
theorem dX1_block_5 : decode cX1_block 5 = .ok (.bipush 123, 2) := dk_16 123 (dk_at dksX1_block_0 5 rfl rfl)
theorem dX1_block_7 : decode cX1_block 7 = .ok (.if_icmp .ne 16, 3) := dk_160 0 16 (dk_at dksX1_block_0 7 rfl rfl)
theorem dX1_block_10 : decode cX1_block 10 = .ok (.aload_n 0, 1) := dk_42 (dk_at dksX1_block_0 10 rfl rfl)
theorem dX1_block_11 : decode cX1_block 11 = .ok (.getfield 122, 3) := dk_180 0 122 (dk_at dksX1_block_0 11 rfl rfl)
theorem dX1_block_14 : decode cX1_block 14 = .ok (.bipush 8, 2) := dk_16 8 (dk_at dksX1_block_0 14 rfl rfl)
theorem dX1_block_16 : decode cX1_block 16 = .ok (.if_icmp .ge 7, 3) := dk_162 0 7 (dk_at dksX1_block_0 16 rfl rfl)
theorem dX1_block_19 : decode cX1_block 19 = .ok (.iconst 1, 1) := dk_4 (dk_at dksX1_block_0 19 rfl rfl)
theorem dX1_block_20 : decode cX1_block 20 = .ok (.goto 4, 3) := dk_167 0 4 (dk_at dksX1_block_0 20 rfl rfl)
theorem dX1_block_23 : decode cX1_block 23 = .ok (.iconst 0, 1) := dk_3 (dk_at dksX1_block_0 23 rfl rfl)
theorem dX1_block_24 : decode cX1_block 24 = .ok (.invokevirtual 104, 3) := dk_182 0 104 (dk_at dksX1_block_1 0 rfl rfl)
theorem dX1_block_27 : decode cX1_block 27 = .ok (.aload_n 0, 1) := dk_42 (dk_at dksX1_block_1 3 rfl rfl)
theorem dX1_block_28 : decode cX1_block 28 = .ok (.dup, 1) := dk_89 (dk_at dksX1_block_1 4 rfl rfl)
theorem dX1_block_29 : decode cX1_block 29 = .ok (.getfield 122, 3) := dk_180 0 122 (dk_at dksX1_block_1 5 rfl rfl)
theorem dX1_block_32 : decode cX1_block 32 = .ok (.iconst 1, 1) := dk_4 (dk_at dksX1_block_1 8 rfl rfl)
theorem dX1_block_33 : decode cX1_block 33 = .ok (.iadd, 1) := dk_96 (dk_at dksX1_block_1 9 rfl rfl)
theorem dX1_block_34 : decode cX1_block 34 = .ok (.putfield 122, 3) := dk_181 0 122 (dk_at dksX1_block_1 10 rfl rfl)
theorem dX1_block_37 : decode cX1_block 37 = .ok (.new 258, 3) := dk_187 1 2 (dk_at dksX1_block_1 13 rfl rfl)
theorem dX1_block_40 : decode cX1_block 40 = .ok (.dup, 1) := dk_89 (dk_at dksX1_block_1 16 rfl rfl)
theorem dX1_block_41 : decode cX1_block 41 = .ok (.invokespecial 260, 3) := dk_183 1 4 (dk_at dksX1_block_1 17 rfl rfl)
theorem dX1_block_44 : decode cX1_block 44 = .ok (.astore_n 2, 1) := dk_77 (dk_at dksX1_block_1 20 rfl rfl)
theorem dX1_block_45 : decode cX1_block 45 = .ok (.aload_n 2, 1) := dk_44 (dk_at dksX1_block_1 21 rfl rfl)
theorem dX1_block_46 : decode cX1_block 46 = .ok (.aload_n 0, 1) := dk_42 (dk_at dksX1_block_1 22 rfl rfl)
theorem dX1_block_47 : decode cX1_block 47 = .ok (.getfield 51, 3) := dk_180 0 51 (dk_at dksX1_block_2 0 rfl rfl)
theorem dX1_block_50 : decode cX1_block 50 = .ok (.putfield 261, 3) := dk_181 1 5 (dk_at dksX1_block_2 3 rfl rfl)
theorem dX1_block_53 : decode cX1_block 53 = .ok (.aload_n 0, 1) := dk_42 (dk_at dksX1_block_2 6 rfl rfl)
theorem dX1_block_54 : decode cX1_block 54 = .ok (.invokevirtual 108, 3) := dk_182 0 108 (dk_at dksX1_block_2 7 rfl rfl)
theorem dX1_block_57 : decode cX1_block 57 = .ok (.aload_n 0, 1) := dk_42 (dk_at dksX1_block_2 10 rfl rfl)
theorem dX1_block_58 : decode cX1_block 58 = .ok (.getfield 56, 3) := dk_180 0 56 (dk_at dksX1_block_2 11 rfl rfl)
theorem dX1_block_61 : decode cX1_block 61 = .ok (.bipush 125, 2) := dk_16 125 (dk_at dksX1_block_2 14 rfl rfl)
theorem dX1_block_63 : decode cX1_block 63 = .ok (.if_icmp .eq 19, 3) := dk_159 0 19 (dk_at dksX1_block_2 16 rfl rfl)
theorem dX1_block_66 : decode cX1_block 66 = .ok (.aload_n 2, 1) := dk_44 (dk_at dksX1_block_2 19 rfl rfl)
theorem dX1_block_67 : decode cX1_block 67 = .ok (.getfield 262, 3) := dk_180 1 6 (dk_at dksX1_block_2 20 rfl rfl)
theorem dX1_block_70 : decode cX1_block 70 = .ok (.aload_n 0, 1) := dk_42 (dk_at dksX1_block_2 23 rfl rfl)
theorem dX1_block_71 : decode cX1_block 71 = .ok (.aload_n 1, 1) := dk_43 (dk_at dksX1_block_3 0 rfl rfl)
theorem dX1_block_72 : decode cX1_block 72 = .ok (.invokevirtual 265, 3) := dk_182 1 9 (dk_at dksX1_block_3 1 rfl rfl)
theorem dX1_block_75 : decode cX1_block 75 = .ok (.invokevirtual 211, 3) := dk_182 0 211 (dk_at dksX1_block_3 4 rfl rfl)
theorem dX1_block_78 : decode cX1_block 78 = .ok (.pop, 1) := dk_87 (dk_at dksX1_block_3 7 rfl rfl)
theorem dX1_block_79 : decode cX1_block 79 = .ok (.goto (-22), 3) := dk_167 255 234 (dk_at dksX1_block_3 8 rfl rfl)
theorem dX1_block_82 : decode cX1_block 82 = .ok (.aload_n 0, 1) := dk_42 (dk_at dksX1_block_3 11 rfl rfl)
theorem dX1_block_83 : decode cX1_block 83 = .ok (.invokevirtual 108, 3) := dk_182 0 108 (dk_at dksX1_block_3 12 rfl rfl)
theorem dX1_block_86 : decode cX1_block 86 = .ok (.aload_n 0, 1) := dk_42 (dk_at dksX1_block_3 15 rfl rfl)
theorem dX1_block_87 : decode cX1_block 87 = .ok (.dup, 1) := dk_89 (dk_at dksX1_block_3 16 rfl rfl)
theorem dX1_block_88 : decode cX1_block 88 = .ok (.getfield 122, 3) := dk_180 0 122 (dk_at dksX1_block_3 17 rfl rfl)
theorem dX1_block_91 : decode cX1_block 91 = .ok (.iconst 1, 1) := dk_4 (dk_at dksX1_block_3 20 rfl rfl)
theorem dX1_block_92 : decode cX1_block 92 = .ok (.isub, 1) := dk_100 (dk_at dksX1_block_3 21 rfl rfl)
theorem dX1_block_93 : decode cX1_block 93 = .ok (.putfield 122, 3) := dk_181 0 122 (dk_at dksX1_block_4 0 rfl rfl)
theorem dX1_block_96 : decode cX1_block 96 = .ok (.aload_n 2, 1) := dk_44 (dk_at dksX1_block_4 3 rfl rfl)
theorem dX1_block_97 : decode cX1_block 97 = .ok (.areturn, 1) := dk_176 (dk_at dksX1_block_4 4 rfl rfl)
abbrev cX1_statement : ByteArray := prog_15_method_17_code
def yX1_statement : MethodName := ⟨RX1, "statement", "(LThrowRules$Around;)LThrowRules$Statement;"⟩
def dkwX1_statement_18 : List UInt8 := [181, 1, 84, 25, 11, 42, 182, 0, 230, 181, 1, 85, 42, 16, 59, 182, 0, 183, 45, 176]
abbrev dktX1_statement_18 : List UInt8 := dkwX1_statement_18 ++ []
def dkwX1_statement_17 : List UInt8 := [187, 0, 237, 89, 43, 183, 0, 239, 58, 12, 25, 12, 4, 181, 1, 81, 25, 11, 42, 25, 12, 182, 0, 242]
abbrev dktX1_statement_17 : List UInt8 := dkwX1_statement_17 ++ dktX1_statement_18
def dkwX1_statement_16 : List UInt8 := [25, 10, 43, 182, 1, 75, 167, 0, 58, 45, 193, 1, 79, 153, 0, 51, 45, 192, 1, 79, 58, 11]
abbrev dktX1_statement_16 : List UInt8 := dkwX1_statement_16 ++ dktX1_statement_17
def dkwX1_statement_15 : List UInt8 := [25, 9, 43, 182, 1, 69, 167, 0, 81, 45, 193, 1, 73, 153, 0, 19, 45, 192, 1, 73, 58, 10, 42]
abbrev dktX1_statement_15 : List UInt8 := dkwX1_statement_15 ++ dktX1_statement_16
def dkwX1_statement_14 : List UInt8 := [167, 0, 110, 45, 193, 1, 67, 153, 0, 25, 45, 192, 1, 67, 58, 9, 42, 16, 59, 182, 0, 183, 42]
abbrev dktX1_statement_14 : List UInt8 := dkwX1_statement_14 ++ dktX1_statement_15
def dkwX1_statement_13 : List UInt8 := [183, 0, 239, 58, 12, 25, 12, 25, 8, 181, 1, 62, 25, 8, 42, 25, 12, 182, 0, 242, 181, 1, 66]
abbrev dktX1_statement_13 : List UInt8 := dkwX1_statement_13 ++ dktX1_statement_14
def dkwX1_statement_12 : List UInt8 := [181, 1, 57, 167, 0, 154, 45, 193, 1, 60, 153, 0, 40, 45, 192, 1, 60, 58, 8, 187, 0, 237, 89, 43]
abbrev dktX1_statement_12 : List UInt8 := dkwX1_statement_12 ++ dktX1_statement_13
def dkwX1_statement_11 : List UInt8 := [181, 1, 52, 42, 19, 1, 55, 182, 0, 111, 153, 0, 171, 42, 182, 0, 108, 25, 7, 42, 43, 182, 0, 242]
abbrev dktX1_statement_11 : List UInt8 := dkwX1_statement_11 ++ dktX1_statement_12
def dkwX1_statement_10 : List UInt8 := [167, 0, 204, 45, 193, 1, 50, 153, 0, 46, 45, 192, 1, 50, 58, 7, 25, 7, 42, 43, 182, 0, 242]
abbrev dktX1_statement_10 : List UInt8 := dkwX1_statement_10 ++ dktX1_statement_11
def dkwX1_statement_9 : List UInt8 := [167, 0, 227, 45, 193, 1, 44, 153, 0, 19, 45, 192, 1, 44, 58, 6, 42, 25, 6, 43, 182, 1, 46]
abbrev dktX1_statement_9 : List UInt8 := dkwX1_statement_9 ++ dktX1_statement_10
def dkwX1_statement_8 : List UInt8 := [167, 0, 250, 45, 193, 1, 38, 153, 0, 19, 45, 192, 1, 38, 58, 5, 42, 25, 5, 43, 182, 1, 40]
abbrev dktX1_statement_8 : List UInt8 := dkwX1_statement_8 ++ dktX1_statement_9
def dkwX1_statement_7 : List UInt8 := [182, 0, 108, 45, 193, 1, 32, 153, 0, 19, 45, 192, 1, 32, 58, 4, 42, 25, 4, 43, 182, 1, 34]
abbrev dktX1_statement_7 : List UInt8 := dkwX1_statement_7 ++ dktX1_statement_8
def dkwX1_statement_6 : List UInt8 := [153, 0, 21, 45, 192, 1, 29, 58, 4, 25, 4, 42, 43, 182, 0, 242, 181, 1, 31, 45, 176, 42]
abbrev dktX1_statement_6 : List UInt8 := dkwX1_statement_6 ++ dktX1_statement_7
def dkwX1_statement_5 : List UInt8 := [180, 0, 204, 181, 1, 28, 42, 180, 0, 131, 180, 1, 15, 45, 182, 0, 211, 87, 45, 193, 1, 29]
abbrev dktX1_statement_5 : List UInt8 := dkwX1_statement_5 ++ dktX1_statement_6
def dkwX1_statement_4 : List UInt8 := [180, 0, 131, 180, 1, 15, 182, 0, 144, 181, 1, 22, 45, 42, 180, 0, 51, 181, 1, 27, 45, 42]
abbrev dktX1_statement_4 : List UInt8 := dkwX1_statement_4 ++ dktX1_statement_5
def dkwX1_statement_3 : List UInt8 := [182, 0, 144, 16, 120, 162, 0, 7, 4, 167, 0, 4, 3, 182, 0, 104, 42, 182, 1, 18, 78, 45, 42]
abbrev dktX1_statement_3 : List UInt8 := dkwX1_statement_3 ++ dktX1_statement_4
def dkwX1_statement_2 : List UInt8 := [182, 0, 96, 153, 0, 7, 4, 167, 0, 4, 3, 61, 42, 28, 153, 0, 22, 42, 180, 0, 131, 180, 1, 15]
abbrev dktX1_statement_2 : List UInt8 := dkwX1_statement_2 ++ dktX1_statement_3
def dkwX1_statement_1 : List UInt8 := [183, 0, 90, 18, 91, 182, 0, 93, 42, 180, 0, 52, 182, 0, 93, 18, 91, 182, 0, 93, 182, 0, 76]
abbrev dktX1_statement_1 : List UInt8 := dkwX1_statement_1 ++ dktX1_statement_2
def dkwX1_statement_0 : List UInt8 := [42, 180, 0, 56, 16, 123, 159, 0, 46, 42, 180, 0, 52, 198, 0, 43, 19, 1, 13, 187, 0, 67, 89]
abbrev dktX1_statement_0 : List UInt8 := dkwX1_statement_0 ++ dktX1_statement_1
theorem dksX1_statement_0 : cX1_statement.data.toList.drop 0 = dktX1_statement_0 := by decide +kernel
theorem dksX1_statement_1 : cX1_statement.data.toList.drop 23 = dktX1_statement_1 := dk_seg dksX1_statement_0 23 rfl rfl
theorem dksX1_statement_2 : cX1_statement.data.toList.drop 46 = dktX1_statement_2 := dk_seg dksX1_statement_1 23 rfl rfl
theorem dksX1_statement_3 : cX1_statement.data.toList.drop 70 = dktX1_statement_3 := dk_seg dksX1_statement_2 24 rfl rfl
theorem dksX1_statement_4 : cX1_statement.data.toList.drop 93 = dktX1_statement_4 := dk_seg dksX1_statement_3 23 rfl rfl
theorem dksX1_statement_5 : cX1_statement.data.toList.drop 115 = dktX1_statement_5 := dk_seg dksX1_statement_4 22 rfl rfl
theorem dksX1_statement_6 : cX1_statement.data.toList.drop 137 = dktX1_statement_6 := dk_seg dksX1_statement_5 22 rfl rfl
theorem dksX1_statement_7 : cX1_statement.data.toList.drop 159 = dktX1_statement_7 := dk_seg dksX1_statement_6 22 rfl rfl
theorem dksX1_statement_8 : cX1_statement.data.toList.drop 182 = dktX1_statement_8 := dk_seg dksX1_statement_7 23 rfl rfl
theorem dksX1_statement_9 : cX1_statement.data.toList.drop 205 = dktX1_statement_9 := dk_seg dksX1_statement_8 23 rfl rfl
theorem dksX1_statement_10 : cX1_statement.data.toList.drop 228 = dktX1_statement_10 := dk_seg dksX1_statement_9 23 rfl rfl
theorem dksX1_statement_11 : cX1_statement.data.toList.drop 251 = dktX1_statement_11 := dk_seg dksX1_statement_10 23 rfl rfl
theorem dksX1_statement_12 : cX1_statement.data.toList.drop 275 = dktX1_statement_12 := dk_seg dksX1_statement_11 24 rfl rfl
theorem dksX1_statement_13 : cX1_statement.data.toList.drop 299 = dktX1_statement_13 := dk_seg dksX1_statement_12 24 rfl rfl
theorem dksX1_statement_14 : cX1_statement.data.toList.drop 322 = dktX1_statement_14 := dk_seg dksX1_statement_13 23 rfl rfl
theorem dksX1_statement_15 : cX1_statement.data.toList.drop 345 = dktX1_statement_15 := dk_seg dksX1_statement_14 23 rfl rfl
theorem dksX1_statement_16 : cX1_statement.data.toList.drop 368 = dktX1_statement_16 := dk_seg dksX1_statement_15 23 rfl rfl
theorem dksX1_statement_17 : cX1_statement.data.toList.drop 390 = dktX1_statement_17 := dk_seg dksX1_statement_16 22 rfl rfl
theorem dksX1_statement_18 : cX1_statement.data.toList.drop 414 = dktX1_statement_18 := dk_seg dksX1_statement_17 24 rfl rfl
theorem dX1_statement_0 : decode cX1_statement 0 = .ok (.aload_n 0, 1) := dk_42 (dk_at dksX1_statement_0 0 rfl rfl)
theorem dX1_statement_1 : decode cX1_statement 1 = .ok (.getfield 56, 3) := dk_180 0 56 (dk_at dksX1_statement_0 1 rfl rfl)
theorem dX1_statement_4 : decode cX1_statement 4 = .ok (.bipush 123, 2) := dk_16 123 (dk_at dksX1_statement_0 4 rfl rfl)
theorem dX1_statement_6 : decode cX1_statement 6 = .ok (.if_icmp .eq 46, 3) := dk_159 0 46 (dk_at dksX1_statement_0 6 rfl rfl)
theorem dX1_statement_9 : decode cX1_statement 9 = .ok (.aload_n 0, 1) := dk_42 (dk_at dksX1_statement_0 9 rfl rfl)
theorem dX1_statement_10 : decode cX1_statement 10 = .ok (.getfield 52, 3) := dk_180 0 52 (dk_at dksX1_statement_0 10 rfl rfl)
theorem dX1_statement_13 : decode cX1_statement 13 = .ok (.ifnull 43, 3) := dk_198 0 43 (dk_at dksX1_statement_0 13 rfl rfl)
theorem dX1_statement_16 : decode cX1_statement 16 = .ok (.ldc_w 269, 3) := dk_19 1 13 (dk_at dksX1_statement_0 16 rfl rfl)
theorem dX1_statement_19 : decode cX1_statement 19 = .ok (.new 67, 3) := dk_187 0 67 (dk_at dksX1_statement_0 19 rfl rfl)
theorem dX1_statement_22 : decode cX1_statement 22 = .ok (.dup, 1) := dk_89 (dk_at dksX1_statement_0 22 rfl rfl)
theorem dX1_statement_23 : decode cX1_statement 23 = .ok (.invokespecial 90, 3) := dk_183 0 90 (dk_at dksX1_statement_1 0 rfl rfl)
theorem dX1_statement_26 : decode cX1_statement 26 = .ok (.ldc 91, 2) := dk_18 91 (dk_at dksX1_statement_1 3 rfl rfl)
theorem dX1_statement_28 : decode cX1_statement 28 = .ok (.invokevirtual 93, 3) := dk_182 0 93 (dk_at dksX1_statement_1 5 rfl rfl)
theorem dX1_statement_31 : decode cX1_statement 31 = .ok (.aload_n 0, 1) := dk_42 (dk_at dksX1_statement_1 8 rfl rfl)
theorem dX1_statement_32 : decode cX1_statement 32 = .ok (.getfield 52, 3) := dk_180 0 52 (dk_at dksX1_statement_1 9 rfl rfl)
theorem dX1_statement_35 : decode cX1_statement 35 = .ok (.invokevirtual 93, 3) := dk_182 0 93 (dk_at dksX1_statement_1 12 rfl rfl)
theorem dX1_statement_38 : decode cX1_statement 38 = .ok (.ldc 91, 2) := dk_18 91 (dk_at dksX1_statement_1 15 rfl rfl)
theorem dX1_statement_40 : decode cX1_statement 40 = .ok (.invokevirtual 93, 3) := dk_182 0 93 (dk_at dksX1_statement_1 17 rfl rfl)
theorem dX1_statement_43 : decode cX1_statement 43 = .ok (.invokevirtual 76, 3) := dk_182 0 76 (dk_at dksX1_statement_1 20 rfl rfl)
theorem dX1_statement_46 : decode cX1_statement 46 = .ok (.invokevirtual 96, 3) := dk_182 0 96 (dk_at dksX1_statement_2 0 rfl rfl)
theorem dX1_statement_49 : decode cX1_statement 49 = .ok (.ifCond .eq 7, 3) := dk_153 0 7 (dk_at dksX1_statement_2 3 rfl rfl)
theorem dX1_statement_52 : decode cX1_statement 52 = .ok (.iconst 1, 1) := dk_4 (dk_at dksX1_statement_2 6 rfl rfl)
theorem dX1_statement_53 : decode cX1_statement 53 = .ok (.goto 4, 3) := dk_167 0 4 (dk_at dksX1_statement_2 7 rfl rfl)
theorem dX1_statement_56 : decode cX1_statement 56 = .ok (.iconst 0, 1) := dk_3 (dk_at dksX1_statement_2 10 rfl rfl)
theorem dX1_statement_57 : decode cX1_statement 57 = .ok (.istore_n 2, 1) := dk_61 (dk_at dksX1_statement_2 11 rfl rfl)
theorem dX1_statement_58 : decode cX1_statement 58 = .ok (.aload_n 0, 1) := dk_42 (dk_at dksX1_statement_2 12 rfl rfl)
theorem dX1_statement_59 : decode cX1_statement 59 = .ok (.iload_n 2, 1) := dk_28 (dk_at dksX1_statement_2 13 rfl rfl)
theorem dX1_statement_60 : decode cX1_statement 60 = .ok (.ifCond .eq 22, 3) := dk_153 0 22 (dk_at dksX1_statement_2 14 rfl rfl)
theorem dX1_statement_63 : decode cX1_statement 63 = .ok (.aload_n 0, 1) := dk_42 (dk_at dksX1_statement_2 17 rfl rfl)
theorem dX1_statement_64 : decode cX1_statement 64 = .ok (.getfield 131, 3) := dk_180 0 131 (dk_at dksX1_statement_2 18 rfl rfl)
theorem dX1_statement_67 : decode cX1_statement 67 = .ok (.getfield 271, 3) := dk_180 1 15 (dk_at dksX1_statement_2 21 rfl rfl)
theorem dX1_statement_70 : decode cX1_statement 70 = .ok (.invokevirtual 144, 3) := dk_182 0 144 (dk_at dksX1_statement_3 0 rfl rfl)
theorem dX1_statement_73 : decode cX1_statement 73 = .ok (.bipush 120, 2) := dk_16 120 (dk_at dksX1_statement_3 3 rfl rfl)
theorem dX1_statement_75 : decode cX1_statement 75 = .ok (.if_icmp .ge 7, 3) := dk_162 0 7 (dk_at dksX1_statement_3 5 rfl rfl)
theorem dX1_statement_78 : decode cX1_statement 78 = .ok (.iconst 1, 1) := dk_4 (dk_at dksX1_statement_3 8 rfl rfl)
theorem dX1_statement_79 : decode cX1_statement 79 = .ok (.goto 4, 3) := dk_167 0 4 (dk_at dksX1_statement_3 9 rfl rfl)
theorem dX1_statement_82 : decode cX1_statement 82 = .ok (.iconst 0, 1) := dk_3 (dk_at dksX1_statement_3 12 rfl rfl)
theorem dX1_statement_83 : decode cX1_statement 83 = .ok (.invokevirtual 104, 3) := dk_182 0 104 (dk_at dksX1_statement_3 13 rfl rfl)
theorem dX1_statement_86 : decode cX1_statement 86 = .ok (.aload_n 0, 1) := dk_42 (dk_at dksX1_statement_3 16 rfl rfl)
theorem dX1_statement_87 : decode cX1_statement 87 = .ok (.invokevirtual 274, 3) := dk_182 1 18 (dk_at dksX1_statement_3 17 rfl rfl)
theorem dX1_statement_90 : decode cX1_statement 90 = .ok (.astore_n 3, 1) := dk_78 (dk_at dksX1_statement_3 20 rfl rfl)
theorem dX1_statement_91 : decode cX1_statement 91 = .ok (.aload_n 3, 1) := dk_45 (dk_at dksX1_statement_3 21 rfl rfl)
theorem dX1_statement_92 : decode cX1_statement 92 = .ok (.aload_n 0, 1) := dk_42 (dk_at dksX1_statement_3 22 rfl rfl)
theorem dX1_statement_93 : decode cX1_statement 93 = .ok (.getfield 131, 3) := dk_180 0 131 (dk_at dksX1_statement_4 0 rfl rfl)
theorem dX1_statement_96 : decode cX1_statement 96 = .ok (.getfield 271, 3) := dk_180 1 15 (dk_at dksX1_statement_4 3 rfl rfl)
theorem dX1_statement_99 : decode cX1_statement 99 = .ok (.invokevirtual 144, 3) := dk_182 0 144 (dk_at dksX1_statement_4 6 rfl rfl)
theorem dX1_statement_102 : decode cX1_statement 102 = .ok (.putfield 278, 3) := dk_181 1 22 (dk_at dksX1_statement_4 9 rfl rfl)
theorem dX1_statement_105 : decode cX1_statement 105 = .ok (.aload_n 3, 1) := dk_45 (dk_at dksX1_statement_4 12 rfl rfl)
theorem dX1_statement_106 : decode cX1_statement 106 = .ok (.aload_n 0, 1) := dk_42 (dk_at dksX1_statement_4 13 rfl rfl)
theorem dX1_statement_107 : decode cX1_statement 107 = .ok (.getfield 51, 3) := dk_180 0 51 (dk_at dksX1_statement_4 14 rfl rfl)
theorem dX1_statement_110 : decode cX1_statement 110 = .ok (.putfield 283, 3) := dk_181 1 27 (dk_at dksX1_statement_4 17 rfl rfl)
theorem dX1_statement_113 : decode cX1_statement 113 = .ok (.aload_n 3, 1) := dk_45 (dk_at dksX1_statement_4 20 rfl rfl)
theorem dX1_statement_114 : decode cX1_statement 114 = .ok (.aload_n 0, 1) := dk_42 (dk_at dksX1_statement_4 21 rfl rfl)
theorem dX1_statement_115 : decode cX1_statement 115 = .ok (.getfield 204, 3) := dk_180 0 204 (dk_at dksX1_statement_5 0 rfl rfl)
theorem dX1_statement_118 : decode cX1_statement 118 = .ok (.putfield 284, 3) := dk_181 1 28 (dk_at dksX1_statement_5 3 rfl rfl)
theorem dX1_statement_121 : decode cX1_statement 121 = .ok (.aload_n 0, 1) := dk_42 (dk_at dksX1_statement_5 6 rfl rfl)
theorem dX1_statement_122 : decode cX1_statement 122 = .ok (.getfield 131, 3) := dk_180 0 131 (dk_at dksX1_statement_5 7 rfl rfl)
theorem dX1_statement_125 : decode cX1_statement 125 = .ok (.getfield 271, 3) := dk_180 1 15 (dk_at dksX1_statement_5 10 rfl rfl)
theorem dX1_statement_128 : decode cX1_statement 128 = .ok (.aload_n 3, 1) := dk_45 (dk_at dksX1_statement_5 13 rfl rfl)
theorem dX1_statement_129 : decode cX1_statement 129 = .ok (.invokevirtual 211, 3) := dk_182 0 211 (dk_at dksX1_statement_5 14 rfl rfl)
theorem dX1_statement_132 : decode cX1_statement 132 = .ok (.pop, 1) := dk_87 (dk_at dksX1_statement_5 17 rfl rfl)
theorem dX1_statement_133 : decode cX1_statement 133 = .ok (.aload_n 3, 1) := dk_45 (dk_at dksX1_statement_5 18 rfl rfl)
theorem dX1_statement_134 : decode cX1_statement 134 = .ok (.instanceof 285, 3) := dk_193 1 29 (dk_at dksX1_statement_5 19 rfl rfl)
theorem dX1_statement_137 : decode cX1_statement 137 = .ok (.ifCond .eq 21, 3) := dk_153 0 21 (dk_at dksX1_statement_6 0 rfl rfl)
theorem dX1_statement_140 : decode cX1_statement 140 = .ok (.aload_n 3, 1) := dk_45 (dk_at dksX1_statement_6 3 rfl rfl)
theorem dX1_statement_141 : decode cX1_statement 141 = .ok (.checkcast 285, 3) := dk_192 1 29 (dk_at dksX1_statement_6 4 rfl rfl)
theorem dX1_statement_144 : decode cX1_statement 144 = .ok (.astore 4, 2) := dk_58 4 (dk_at dksX1_statement_6 7 rfl rfl)
theorem dX1_statement_146 : decode cX1_statement 146 = .ok (.aload 4, 2) := dk_25 4 (dk_at dksX1_statement_6 9 rfl rfl)
theorem dX1_statement_148 : decode cX1_statement 148 = .ok (.aload_n 0, 1) := dk_42 (dk_at dksX1_statement_6 11 rfl rfl)
theorem dX1_statement_149 : decode cX1_statement 149 = .ok (.aload_n 1, 1) := dk_43 (dk_at dksX1_statement_6 12 rfl rfl)
theorem dX1_statement_150 : decode cX1_statement 150 = .ok (.invokevirtual 242, 3) := dk_182 0 242 (dk_at dksX1_statement_6 13 rfl rfl)
theorem dX1_statement_153 : decode cX1_statement 153 = .ok (.putfield 287, 3) := dk_181 1 31 (dk_at dksX1_statement_6 16 rfl rfl)
theorem dX1_statement_156 : decode cX1_statement 156 = .ok (.aload_n 3, 1) := dk_45 (dk_at dksX1_statement_6 19 rfl rfl)
theorem dX1_statement_157 : decode cX1_statement 157 = .ok (.areturn, 1) := dk_176 (dk_at dksX1_statement_6 20 rfl rfl)
theorem dX1_statement_158 : decode cX1_statement 158 = .ok (.aload_n 0, 1) := dk_42 (dk_at dksX1_statement_6 21 rfl rfl)
theorem dX1_statement_159 : decode cX1_statement 159 = .ok (.invokevirtual 108, 3) := dk_182 0 108 (dk_at dksX1_statement_7 0 rfl rfl)
theorem dX1_statement_162 : decode cX1_statement 162 = .ok (.aload_n 3, 1) := dk_45 (dk_at dksX1_statement_7 3 rfl rfl)
theorem dX1_statement_163 : decode cX1_statement 163 = .ok (.instanceof 288, 3) := dk_193 1 32 (dk_at dksX1_statement_7 4 rfl rfl)
theorem dX1_statement_166 : decode cX1_statement 166 = .ok (.ifCond .eq 19, 3) := dk_153 0 19 (dk_at dksX1_statement_7 7 rfl rfl)
theorem dX1_statement_169 : decode cX1_statement 169 = .ok (.aload_n 3, 1) := dk_45 (dk_at dksX1_statement_7 10 rfl rfl)
theorem dX1_statement_170 : decode cX1_statement 170 = .ok (.checkcast 288, 3) := dk_192 1 32 (dk_at dksX1_statement_7 11 rfl rfl)
theorem dX1_statement_173 : decode cX1_statement 173 = .ok (.astore 4, 2) := dk_58 4 (dk_at dksX1_statement_7 14 rfl rfl)
theorem dX1_statement_175 : decode cX1_statement 175 = .ok (.aload_n 0, 1) := dk_42 (dk_at dksX1_statement_7 16 rfl rfl)
theorem dX1_statement_176 : decode cX1_statement 176 = .ok (.aload 4, 2) := dk_25 4 (dk_at dksX1_statement_7 17 rfl rfl)
theorem dX1_statement_178 : decode cX1_statement 178 = .ok (.aload_n 1, 1) := dk_43 (dk_at dksX1_statement_7 19 rfl rfl)
theorem dX1_statement_179 : decode cX1_statement 179 = .ok (.invokevirtual 290, 3) := dk_182 1 34 (dk_at dksX1_statement_7 20 rfl rfl)
theorem dX1_statement_182 : decode cX1_statement 182 = .ok (.goto 250, 3) := dk_167 0 250 (dk_at dksX1_statement_8 0 rfl rfl)
theorem dX1_statement_185 : decode cX1_statement 185 = .ok (.aload_n 3, 1) := dk_45 (dk_at dksX1_statement_8 3 rfl rfl)
theorem dX1_statement_186 : decode cX1_statement 186 = .ok (.instanceof 294, 3) := dk_193 1 38 (dk_at dksX1_statement_8 4 rfl rfl)
theorem dX1_statement_189 : decode cX1_statement 189 = .ok (.ifCond .eq 19, 3) := dk_153 0 19 (dk_at dksX1_statement_8 7 rfl rfl)
theorem dX1_statement_192 : decode cX1_statement 192 = .ok (.aload_n 3, 1) := dk_45 (dk_at dksX1_statement_8 10 rfl rfl)
theorem dX1_statement_193 : decode cX1_statement 193 = .ok (.checkcast 294, 3) := dk_192 1 38 (dk_at dksX1_statement_8 11 rfl rfl)
theorem dX1_statement_196 : decode cX1_statement 196 = .ok (.astore 5, 2) := dk_58 5 (dk_at dksX1_statement_8 14 rfl rfl)
theorem dX1_statement_198 : decode cX1_statement 198 = .ok (.aload_n 0, 1) := dk_42 (dk_at dksX1_statement_8 16 rfl rfl)
theorem dX1_statement_199 : decode cX1_statement 199 = .ok (.aload 5, 2) := dk_25 5 (dk_at dksX1_statement_8 17 rfl rfl)
theorem dX1_statement_201 : decode cX1_statement 201 = .ok (.aload_n 1, 1) := dk_43 (dk_at dksX1_statement_8 19 rfl rfl)
theorem dX1_statement_202 : decode cX1_statement 202 = .ok (.invokevirtual 296, 3) := dk_182 1 40 (dk_at dksX1_statement_8 20 rfl rfl)
theorem dX1_statement_205 : decode cX1_statement 205 = .ok (.goto 227, 3) := dk_167 0 227 (dk_at dksX1_statement_9 0 rfl rfl)
theorem dX1_statement_208 : decode cX1_statement 208 = .ok (.aload_n 3, 1) := dk_45 (dk_at dksX1_statement_9 3 rfl rfl)
theorem dX1_statement_209 : decode cX1_statement 209 = .ok (.instanceof 300, 3) := dk_193 1 44 (dk_at dksX1_statement_9 4 rfl rfl)
theorem dX1_statement_212 : decode cX1_statement 212 = .ok (.ifCond .eq 19, 3) := dk_153 0 19 (dk_at dksX1_statement_9 7 rfl rfl)
theorem dX1_statement_215 : decode cX1_statement 215 = .ok (.aload_n 3, 1) := dk_45 (dk_at dksX1_statement_9 10 rfl rfl)
theorem dX1_statement_216 : decode cX1_statement 216 = .ok (.checkcast 300, 3) := dk_192 1 44 (dk_at dksX1_statement_9 11 rfl rfl)
theorem dX1_statement_219 : decode cX1_statement 219 = .ok (.astore 6, 2) := dk_58 6 (dk_at dksX1_statement_9 14 rfl rfl)
theorem dX1_statement_221 : decode cX1_statement 221 = .ok (.aload_n 0, 1) := dk_42 (dk_at dksX1_statement_9 16 rfl rfl)
theorem dX1_statement_222 : decode cX1_statement 222 = .ok (.aload 6, 2) := dk_25 6 (dk_at dksX1_statement_9 17 rfl rfl)
theorem dX1_statement_224 : decode cX1_statement 224 = .ok (.aload_n 1, 1) := dk_43 (dk_at dksX1_statement_9 19 rfl rfl)
theorem dX1_statement_225 : decode cX1_statement 225 = .ok (.invokevirtual 302, 3) := dk_182 1 46 (dk_at dksX1_statement_9 20 rfl rfl)
theorem dX1_statement_228 : decode cX1_statement 228 = .ok (.goto 204, 3) := dk_167 0 204 (dk_at dksX1_statement_10 0 rfl rfl)
theorem dX1_statement_231 : decode cX1_statement 231 = .ok (.aload_n 3, 1) := dk_45 (dk_at dksX1_statement_10 3 rfl rfl)
theorem dX1_statement_232 : decode cX1_statement 232 = .ok (.instanceof 306, 3) := dk_193 1 50 (dk_at dksX1_statement_10 4 rfl rfl)
theorem dX1_statement_235 : decode cX1_statement 235 = .ok (.ifCond .eq 46, 3) := dk_153 0 46 (dk_at dksX1_statement_10 7 rfl rfl)
theorem dX1_statement_238 : decode cX1_statement 238 = .ok (.aload_n 3, 1) := dk_45 (dk_at dksX1_statement_10 10 rfl rfl)
theorem dX1_statement_239 : decode cX1_statement 239 = .ok (.checkcast 306, 3) := dk_192 1 50 (dk_at dksX1_statement_10 11 rfl rfl)
theorem dX1_statement_242 : decode cX1_statement 242 = .ok (.astore 7, 2) := dk_58 7 (dk_at dksX1_statement_10 14 rfl rfl)
theorem dX1_statement_244 : decode cX1_statement 244 = .ok (.aload 7, 2) := dk_25 7 (dk_at dksX1_statement_10 16 rfl rfl)
theorem dX1_statement_246 : decode cX1_statement 246 = .ok (.aload_n 0, 1) := dk_42 (dk_at dksX1_statement_10 18 rfl rfl)
theorem dX1_statement_247 : decode cX1_statement 247 = .ok (.aload_n 1, 1) := dk_43 (dk_at dksX1_statement_10 19 rfl rfl)
theorem dX1_statement_248 : decode cX1_statement 248 = .ok (.invokevirtual 242, 3) := dk_182 0 242 (dk_at dksX1_statement_10 20 rfl rfl)
theorem dX1_statement_251 : decode cX1_statement 251 = .ok (.putfield 308, 3) := dk_181 1 52 (dk_at dksX1_statement_11 0 rfl rfl)
theorem dX1_statement_254 : decode cX1_statement 254 = .ok (.aload_n 0, 1) := dk_42 (dk_at dksX1_statement_11 3 rfl rfl)
theorem dX1_statement_255 : decode cX1_statement 255 = .ok (.ldc_w 311, 3) := dk_19 1 55 (dk_at dksX1_statement_11 4 rfl rfl)
theorem dX1_statement_258 : decode cX1_statement 258 = .ok (.invokevirtual 111, 3) := dk_182 0 111 (dk_at dksX1_statement_11 7 rfl rfl)
theorem dX1_statement_261 : decode cX1_statement 261 = .ok (.ifCond .eq 171, 3) := dk_153 0 171 (dk_at dksX1_statement_11 10 rfl rfl)
theorem dX1_statement_264 : decode cX1_statement 264 = .ok (.aload_n 0, 1) := dk_42 (dk_at dksX1_statement_11 13 rfl rfl)
theorem dX1_statement_265 : decode cX1_statement 265 = .ok (.invokevirtual 108, 3) := dk_182 0 108 (dk_at dksX1_statement_11 14 rfl rfl)
theorem dX1_statement_268 : decode cX1_statement 268 = .ok (.aload 7, 2) := dk_25 7 (dk_at dksX1_statement_11 17 rfl rfl)
theorem dX1_statement_270 : decode cX1_statement 270 = .ok (.aload_n 0, 1) := dk_42 (dk_at dksX1_statement_11 19 rfl rfl)
theorem dX1_statement_271 : decode cX1_statement 271 = .ok (.aload_n 1, 1) := dk_43 (dk_at dksX1_statement_11 20 rfl rfl)
theorem dX1_statement_272 : decode cX1_statement 272 = .ok (.invokevirtual 242, 3) := dk_182 0 242 (dk_at dksX1_statement_11 21 rfl rfl)
theorem dX1_statement_275 : decode cX1_statement 275 = .ok (.putfield 313, 3) := dk_181 1 57 (dk_at dksX1_statement_12 0 rfl rfl)
theorem dX1_statement_278 : decode cX1_statement 278 = .ok (.goto 154, 3) := dk_167 0 154 (dk_at dksX1_statement_12 3 rfl rfl)
theorem dX1_statement_281 : decode cX1_statement 281 = .ok (.aload_n 3, 1) := dk_45 (dk_at dksX1_statement_12 6 rfl rfl)
theorem dX1_statement_282 : decode cX1_statement 282 = .ok (.instanceof 316, 3) := dk_193 1 60 (dk_at dksX1_statement_12 7 rfl rfl)
theorem dX1_statement_285 : decode cX1_statement 285 = .ok (.ifCond .eq 40, 3) := dk_153 0 40 (dk_at dksX1_statement_12 10 rfl rfl)
theorem dX1_statement_288 : decode cX1_statement 288 = .ok (.aload_n 3, 1) := dk_45 (dk_at dksX1_statement_12 13 rfl rfl)
theorem dX1_statement_289 : decode cX1_statement 289 = .ok (.checkcast 316, 3) := dk_192 1 60 (dk_at dksX1_statement_12 14 rfl rfl)
theorem dX1_statement_292 : decode cX1_statement 292 = .ok (.astore 8, 2) := dk_58 8 (dk_at dksX1_statement_12 17 rfl rfl)
theorem dX1_statement_294 : decode cX1_statement 294 = .ok (.new 237, 3) := dk_187 0 237 (dk_at dksX1_statement_12 19 rfl rfl)
theorem dX1_statement_297 : decode cX1_statement 297 = .ok (.dup, 1) := dk_89 (dk_at dksX1_statement_12 22 rfl rfl)
theorem dX1_statement_298 : decode cX1_statement 298 = .ok (.aload_n 1, 1) := dk_43 (dk_at dksX1_statement_12 23 rfl rfl)
theorem dX1_statement_299 : decode cX1_statement 299 = .ok (.invokespecial 239, 3) := dk_183 0 239 (dk_at dksX1_statement_13 0 rfl rfl)
theorem dX1_statement_302 : decode cX1_statement 302 = .ok (.astore 12, 2) := dk_58 12 (dk_at dksX1_statement_13 3 rfl rfl)
theorem dX1_statement_304 : decode cX1_statement 304 = .ok (.aload 12, 2) := dk_25 12 (dk_at dksX1_statement_13 5 rfl rfl)
theorem dX1_statement_306 : decode cX1_statement 306 = .ok (.aload 8, 2) := dk_25 8 (dk_at dksX1_statement_13 7 rfl rfl)
theorem dX1_statement_308 : decode cX1_statement 308 = .ok (.putfield 318, 3) := dk_181 1 62 (dk_at dksX1_statement_13 9 rfl rfl)
theorem dX1_statement_311 : decode cX1_statement 311 = .ok (.aload 8, 2) := dk_25 8 (dk_at dksX1_statement_13 12 rfl rfl)
theorem dX1_statement_313 : decode cX1_statement 313 = .ok (.aload_n 0, 1) := dk_42 (dk_at dksX1_statement_13 14 rfl rfl)
theorem dX1_statement_314 : decode cX1_statement 314 = .ok (.aload 12, 2) := dk_25 12 (dk_at dksX1_statement_13 15 rfl rfl)
theorem dX1_statement_316 : decode cX1_statement 316 = .ok (.invokevirtual 242, 3) := dk_182 0 242 (dk_at dksX1_statement_13 17 rfl rfl)
theorem dX1_statement_319 : decode cX1_statement 319 = .ok (.putfield 322, 3) := dk_181 1 66 (dk_at dksX1_statement_13 20 rfl rfl)
theorem dX1_statement_322 : decode cX1_statement 322 = .ok (.goto 110, 3) := dk_167 0 110 (dk_at dksX1_statement_14 0 rfl rfl)
theorem dX1_statement_325 : decode cX1_statement 325 = .ok (.aload_n 3, 1) := dk_45 (dk_at dksX1_statement_14 3 rfl rfl)
theorem dX1_statement_326 : decode cX1_statement 326 = .ok (.instanceof 323, 3) := dk_193 1 67 (dk_at dksX1_statement_14 4 rfl rfl)
theorem dX1_statement_329 : decode cX1_statement 329 = .ok (.ifCond .eq 25, 3) := dk_153 0 25 (dk_at dksX1_statement_14 7 rfl rfl)
theorem dX1_statement_332 : decode cX1_statement 332 = .ok (.aload_n 3, 1) := dk_45 (dk_at dksX1_statement_14 10 rfl rfl)
theorem dX1_statement_333 : decode cX1_statement 333 = .ok (.checkcast 323, 3) := dk_192 1 67 (dk_at dksX1_statement_14 11 rfl rfl)
theorem dX1_statement_336 : decode cX1_statement 336 = .ok (.astore 9, 2) := dk_58 9 (dk_at dksX1_statement_14 14 rfl rfl)
theorem dX1_statement_338 : decode cX1_statement 338 = .ok (.aload_n 0, 1) := dk_42 (dk_at dksX1_statement_14 16 rfl rfl)
theorem dX1_statement_339 : decode cX1_statement 339 = .ok (.bipush 59, 2) := dk_16 59 (dk_at dksX1_statement_14 17 rfl rfl)
theorem dX1_statement_341 : decode cX1_statement 341 = .ok (.invokevirtual 183, 3) := dk_182 0 183 (dk_at dksX1_statement_14 19 rfl rfl)
theorem dX1_statement_344 : decode cX1_statement 344 = .ok (.aload_n 0, 1) := dk_42 (dk_at dksX1_statement_14 22 rfl rfl)
theorem dX1_statement_345 : decode cX1_statement 345 = .ok (.aload 9, 2) := dk_25 9 (dk_at dksX1_statement_15 0 rfl rfl)
theorem dX1_statement_347 : decode cX1_statement 347 = .ok (.aload_n 1, 1) := dk_43 (dk_at dksX1_statement_15 2 rfl rfl)
theorem dX1_statement_348 : decode cX1_statement 348 = .ok (.invokevirtual 325, 3) := dk_182 1 69 (dk_at dksX1_statement_15 3 rfl rfl)
theorem dX1_statement_351 : decode cX1_statement 351 = .ok (.goto 81, 3) := dk_167 0 81 (dk_at dksX1_statement_15 6 rfl rfl)
theorem dX1_statement_354 : decode cX1_statement 354 = .ok (.aload_n 3, 1) := dk_45 (dk_at dksX1_statement_15 9 rfl rfl)
theorem dX1_statement_355 : decode cX1_statement 355 = .ok (.instanceof 329, 3) := dk_193 1 73 (dk_at dksX1_statement_15 10 rfl rfl)
theorem dX1_statement_358 : decode cX1_statement 358 = .ok (.ifCond .eq 19, 3) := dk_153 0 19 (dk_at dksX1_statement_15 13 rfl rfl)
theorem dX1_statement_361 : decode cX1_statement 361 = .ok (.aload_n 3, 1) := dk_45 (dk_at dksX1_statement_15 16 rfl rfl)
theorem dX1_statement_362 : decode cX1_statement 362 = .ok (.checkcast 329, 3) := dk_192 1 73 (dk_at dksX1_statement_15 17 rfl rfl)
theorem dX1_statement_365 : decode cX1_statement 365 = .ok (.astore 10, 2) := dk_58 10 (dk_at dksX1_statement_15 20 rfl rfl)
theorem dX1_statement_367 : decode cX1_statement 367 = .ok (.aload_n 0, 1) := dk_42 (dk_at dksX1_statement_15 22 rfl rfl)
theorem dX1_statement_368 : decode cX1_statement 368 = .ok (.aload 10, 2) := dk_25 10 (dk_at dksX1_statement_16 0 rfl rfl)
theorem dX1_statement_370 : decode cX1_statement 370 = .ok (.aload_n 1, 1) := dk_43 (dk_at dksX1_statement_16 2 rfl rfl)
theorem dX1_statement_371 : decode cX1_statement 371 = .ok (.invokevirtual 331, 3) := dk_182 1 75 (dk_at dksX1_statement_16 3 rfl rfl)
theorem dX1_statement_374 : decode cX1_statement 374 = .ok (.goto 58, 3) := dk_167 0 58 (dk_at dksX1_statement_16 6 rfl rfl)
theorem dX1_statement_377 : decode cX1_statement 377 = .ok (.aload_n 3, 1) := dk_45 (dk_at dksX1_statement_16 9 rfl rfl)
theorem dX1_statement_378 : decode cX1_statement 378 = .ok (.instanceof 335, 3) := dk_193 1 79 (dk_at dksX1_statement_16 10 rfl rfl)
theorem dX1_statement_381 : decode cX1_statement 381 = .ok (.ifCond .eq 51, 3) := dk_153 0 51 (dk_at dksX1_statement_16 13 rfl rfl)
theorem dX1_statement_384 : decode cX1_statement 384 = .ok (.aload_n 3, 1) := dk_45 (dk_at dksX1_statement_16 16 rfl rfl)
theorem dX1_statement_385 : decode cX1_statement 385 = .ok (.checkcast 335, 3) := dk_192 1 79 (dk_at dksX1_statement_16 17 rfl rfl)
theorem dX1_statement_388 : decode cX1_statement 388 = .ok (.astore 11, 2) := dk_58 11 (dk_at dksX1_statement_16 20 rfl rfl)
theorem dX1_statement_390 : decode cX1_statement 390 = .ok (.new 237, 3) := dk_187 0 237 (dk_at dksX1_statement_17 0 rfl rfl)
theorem dX1_statement_393 : decode cX1_statement 393 = .ok (.dup, 1) := dk_89 (dk_at dksX1_statement_17 3 rfl rfl)
theorem dX1_statement_394 : decode cX1_statement 394 = .ok (.aload_n 1, 1) := dk_43 (dk_at dksX1_statement_17 4 rfl rfl)
theorem dX1_statement_395 : decode cX1_statement 395 = .ok (.invokespecial 239, 3) := dk_183 0 239 (dk_at dksX1_statement_17 5 rfl rfl)
theorem dX1_statement_398 : decode cX1_statement 398 = .ok (.astore 12, 2) := dk_58 12 (dk_at dksX1_statement_17 8 rfl rfl)
theorem dX1_statement_400 : decode cX1_statement 400 = .ok (.aload 12, 2) := dk_25 12 (dk_at dksX1_statement_17 10 rfl rfl)
theorem dX1_statement_402 : decode cX1_statement 402 = .ok (.iconst 1, 1) := dk_4 (dk_at dksX1_statement_17 12 rfl rfl)
theorem dX1_statement_403 : decode cX1_statement 403 = .ok (.putfield 337, 3) := dk_181 1 81 (dk_at dksX1_statement_17 13 rfl rfl)
theorem dX1_statement_406 : decode cX1_statement 406 = .ok (.aload 11, 2) := dk_25 11 (dk_at dksX1_statement_17 16 rfl rfl)
theorem dX1_statement_408 : decode cX1_statement 408 = .ok (.aload_n 0, 1) := dk_42 (dk_at dksX1_statement_17 18 rfl rfl)
theorem dX1_statement_409 : decode cX1_statement 409 = .ok (.aload 12, 2) := dk_25 12 (dk_at dksX1_statement_17 19 rfl rfl)
theorem dX1_statement_411 : decode cX1_statement 411 = .ok (.invokevirtual 242, 3) := dk_182 0 242 (dk_at dksX1_statement_17 21 rfl rfl)
theorem dX1_statement_414 : decode cX1_statement 414 = .ok (.putfield 340, 3) := dk_181 1 84 (dk_at dksX1_statement_18 0 rfl rfl)
theorem dX1_statement_417 : decode cX1_statement 417 = .ok (.aload 11, 2) := dk_25 11 (dk_at dksX1_statement_18 3 rfl rfl)
theorem dX1_statement_419 : decode cX1_statement 419 = .ok (.aload_n 0, 1) := dk_42 (dk_at dksX1_statement_18 5 rfl rfl)
theorem dX1_statement_420 : decode cX1_statement 420 = .ok (.invokevirtual 230, 3) := dk_182 0 230 (dk_at dksX1_statement_18 6 rfl rfl)
theorem dX1_statement_423 : decode cX1_statement 423 = .ok (.putfield 341, 3) := dk_181 1 85 (dk_at dksX1_statement_18 9 rfl rfl)
theorem dX1_statement_426 : decode cX1_statement 426 = .ok (.aload_n 0, 1) := dk_42 (dk_at dksX1_statement_18 12 rfl rfl)
theorem dX1_statement_427 : decode cX1_statement 427 = .ok (.bipush 59, 2) := dk_16 59 (dk_at dksX1_statement_18 13 rfl rfl)
theorem dX1_statement_429 : decode cX1_statement 429 = .ok (.invokevirtual 183, 3) := dk_182 0 183 (dk_at dksX1_statement_18 15 rfl rfl)
theorem dX1_statement_432 : decode cX1_statement 432 = .ok (.aload_n 3, 1) := dk_45 (dk_at dksX1_statement_18 18 rfl rfl)
theorem dX1_statement_433 : decode cX1_statement 433 = .ok (.areturn, 1) := dk_176 (dk_at dksX1_statement_18 19 rfl rfl)
abbrev cX1_made : ByteArray := prog_15_method_18_code
def yX1_made : MethodName := ⟨RX1, "made", "()LThrowRules$Statement;"⟩
def dkwX1_made_14 : List UInt8 := [89, 16, 8, 183, 1, 108, 176, 187, 1, 73, 89, 183, 1, 115, 176, 187, 1, 79, 89, 183, 1, 116, 176]
abbrev dktX1_made_14 : List UInt8 := dkwX1_made_14 ++ []
def dkwX1_made_13 : List UInt8 := [183, 1, 112, 176, 187, 1, 60, 89, 3, 183, 1, 112, 176, 187, 1, 67, 89, 183, 1, 114, 176, 187, 1, 32]
abbrev dktX1_made_13 : List UInt8 := dkwX1_made_13 ++ dktX1_made_14
def dkwX1_made_12 : List UInt8 := [176, 187, 1, 32, 89, 6, 183, 1, 108, 176, 187, 1, 50, 89, 183, 1, 111, 176, 187, 1, 60, 89, 4]
abbrev dktX1_made_12 : List UInt8 := dkwX1_made_12 ++ dktX1_made_13
def dkwX1_made_11 : List UInt8 := [187, 1, 32, 89, 3, 183, 1, 108, 176, 187, 1, 38, 89, 183, 1, 109, 176, 187, 1, 44, 89, 183, 1, 110]
abbrev dktX1_made_11 : List UInt8 := dkwX1_made_11 ++ dktX1_made_12
def dkwX1_made_10 : List UInt8 := [170, 0, 0, 0, 0, 0, 0, 142, 0, 0, 0, 0, 0, 0, 0, 9, 0, 0, 0, 56, 0, 0, 0, 65, 0, 0, 0, 73, 0, 0, 0, 81, 0, 0, 0, 90, 0, 0, 0, 98, 0, 0, 0, 107, 0, 0, 0, 116, 0, 0, 0, 124, 0, 0, 0, 134]
abbrev dktX1_made_10 : List UInt8 := dkwX1_made_10 ++ dktX1_made_11
def dkwX1_made_9 : List UInt8 := [182, 0, 100, 153, 0, 6, 16, 9, 61, 28]
abbrev dktX1_made_9 : List UInt8 := dkwX1_made_9 ++ dktX1_made_10
def dkwX1_made_8 : List UInt8 := [61, 167, 0, 32, 43, 19, 1, 104, 182, 0, 100, 153, 0, 22, 16, 8, 61, 167, 0, 16, 43, 19, 1, 106]
abbrev dktX1_made_8 : List UInt8 := dkwX1_made_8 ++ dktX1_made_9
def dkwX1_made_7 : List UInt8 := [182, 0, 100, 153, 0, 54, 16, 6, 61, 167, 0, 48, 43, 19, 1, 102, 182, 0, 100, 153, 0, 38, 16, 7]
abbrev dktX1_made_7 : List UInt8 := dkwX1_made_7 ++ dktX1_made_8
def dkwX1_made_6 : List UInt8 := [7, 61, 167, 0, 79, 43, 19, 1, 99, 182, 0, 100, 153, 0, 69, 8, 61, 167, 0, 64, 43, 19, 1, 101]
abbrev dktX1_made_6 : List UInt8 := dkwX1_made_6 ++ dktX1_made_7
def dkwX1_made_5 : List UInt8 := [19, 1, 95, 182, 0, 100, 153, 0, 99, 6, 61, 167, 0, 94, 43, 19, 1, 97, 182, 0, 100, 153, 0, 84]
abbrev dktX1_made_5 : List UInt8 := dkwX1_made_5 ++ dktX1_made_6
def dkwX1_made_4 : List UInt8 := [153, 0, 129, 4, 61, 167, 0, 124, 43, 19, 1, 93, 182, 0, 100, 153, 0, 114, 5, 61, 167, 0, 109, 43]
abbrev dktX1_made_4 : List UInt8 := dkwX1_made_4 ++ dktX1_made_5
def dkwX1_made_3 : List UInt8 := [43, 19, 1, 90, 182, 0, 100, 153, 0, 144, 3, 61, 167, 0, 139, 43, 19, 1, 92, 182, 0, 100]
abbrev dktX1_made_3 : List UInt8 := dkwX1_made_3 ++ dktX1_made_4
def dkwX1_made_2 : List UInt8 := [171, 0, 0, 0, 0, 0, 0, 243, 0, 0, 0, 10, 200, 78, 61, 48, 0, 0, 0, 214, 0, 0, 12, 139, 0, 0, 0, 92, 0, 0, 13, 29, 0, 0, 0, 152, 0, 1, 188, 98, 0, 0, 0, 137, 0, 1, 193, 187, 0, 0, 0, 230, 0, 46, 122, 94, 0, 0, 0, 107, 0, 50, 198, 164, 0, 0, 0, 182, 5, 154, 88, 255, 0, 0, 0, 198, 6, 147, 166, 230, 0, 0, 0, 122, 6, 189, 203, 49, 0, 0, 0, 167]
abbrev dktX1_made_2 : List UInt8 := dkwX1_made_2 ++ dktX1_made_3
def dkwX1_made_1 : List UInt8 := [43, 182, 1, 87]
abbrev dktX1_made_1 : List UInt8 := dkwX1_made_1 ++ dktX1_made_2
def dkwX1_made_0 : List UInt8 := [42, 180, 0, 56, 16, 123, 160, 0, 11, 187, 1, 29, 89, 183, 1, 86, 176, 42, 180, 0, 52, 76, 2, 61]
abbrev dktX1_made_0 : List UInt8 := dkwX1_made_0 ++ dktX1_made_1
theorem dksX1_made_0 : cX1_made.data.toList.drop 0 = dktX1_made_0 := by decide +kernel
theorem dksX1_made_1 : cX1_made.data.toList.drop 24 = dktX1_made_1 := dk_seg dksX1_made_0 24 rfl rfl
theorem dksX1_made_2 : cX1_made.data.toList.drop 28 = dktX1_made_2 := dk_seg dksX1_made_1 4 rfl rfl
theorem dksX1_made_3 : cX1_made.data.toList.drop 120 = dktX1_made_3 := dk_seg dksX1_made_2 92 rfl rfl
theorem dksX1_made_4 : cX1_made.data.toList.drop 142 = dktX1_made_4 := dk_seg dksX1_made_3 22 rfl rfl
theorem dksX1_made_5 : cX1_made.data.toList.drop 166 = dktX1_made_5 := dk_seg dksX1_made_4 24 rfl rfl
theorem dksX1_made_6 : cX1_made.data.toList.drop 190 = dktX1_made_6 := dk_seg dksX1_made_5 24 rfl rfl
theorem dksX1_made_7 : cX1_made.data.toList.drop 214 = dktX1_made_7 := dk_seg dksX1_made_6 24 rfl rfl
theorem dksX1_made_8 : cX1_made.data.toList.drop 238 = dktX1_made_8 := dk_seg dksX1_made_7 24 rfl rfl
theorem dksX1_made_9 : cX1_made.data.toList.drop 262 = dktX1_made_9 := dk_seg dksX1_made_8 24 rfl rfl
theorem dksX1_made_10 : cX1_made.data.toList.drop 272 = dktX1_made_10 := dk_seg dksX1_made_9 10 rfl rfl
theorem dksX1_made_11 : cX1_made.data.toList.drop 328 = dktX1_made_11 := dk_seg dksX1_made_10 56 rfl rfl
theorem dksX1_made_12 : cX1_made.data.toList.drop 352 = dktX1_made_12 := dk_seg dksX1_made_11 24 rfl rfl
theorem dksX1_made_13 : cX1_made.data.toList.drop 375 = dktX1_made_13 := dk_seg dksX1_made_12 23 rfl rfl
theorem dksX1_made_14 : cX1_made.data.toList.drop 399 = dktX1_made_14 := dk_seg dksX1_made_13 24 rfl rfl
theorem dX1_made_0 : decode cX1_made 0 = .ok (.aload_n 0, 1) := dk_42 (dk_at dksX1_made_0 0 rfl rfl)
theorem dX1_made_1 : decode cX1_made 1 = .ok (.getfield 56, 3) := dk_180 0 56 (dk_at dksX1_made_0 1 rfl rfl)
theorem dX1_made_4 : decode cX1_made 4 = .ok (.bipush 123, 2) := dk_16 123 (dk_at dksX1_made_0 4 rfl rfl)
theorem dX1_made_6 : decode cX1_made 6 = .ok (.if_icmp .ne 11, 3) := dk_160 0 11 (dk_at dksX1_made_0 6 rfl rfl)
theorem dX1_made_9 : decode cX1_made 9 = .ok (.new 285, 3) := dk_187 1 29 (dk_at dksX1_made_0 9 rfl rfl)
theorem dX1_made_12 : decode cX1_made 12 = .ok (.dup, 1) := dk_89 (dk_at dksX1_made_0 12 rfl rfl)
theorem dX1_made_13 : decode cX1_made 13 = .ok (.invokespecial 342, 3) := dk_183 1 86 (dk_at dksX1_made_0 13 rfl rfl)
theorem dX1_made_16 : decode cX1_made 16 = .ok (.areturn, 1) := dk_176 (dk_at dksX1_made_0 16 rfl rfl)
theorem dX1_made_17 : decode cX1_made 17 = .ok (.aload_n 0, 1) := dk_42 (dk_at dksX1_made_0 17 rfl rfl)
theorem dX1_made_18 : decode cX1_made 18 = .ok (.getfield 52, 3) := dk_180 0 52 (dk_at dksX1_made_0 18 rfl rfl)
theorem dX1_made_21 : decode cX1_made 21 = .ok (.astore_n 1, 1) := dk_76 (dk_at dksX1_made_0 21 rfl rfl)
theorem dX1_made_22 : decode cX1_made 22 = .ok (.iconst (-1), 1) := dk_2 (dk_at dksX1_made_0 22 rfl rfl)
theorem dX1_made_23 : decode cX1_made 23 = .ok (.istore_n 2, 1) := dk_61 (dk_at dksX1_made_0 23 rfl rfl)
theorem dX1_made_24 : decode cX1_made 24 = .ok (.aload_n 1, 1) := dk_43 (dk_at dksX1_made_1 0 rfl rfl)
theorem dX1_made_25 : decode cX1_made 25 = .ok (.invokevirtual 343, 3) := dk_182 1 87 (dk_at dksX1_made_1 1 rfl rfl)
theorem dX1_made_28 : decode cX1_made 28 = .ok (.lookupswitch 243 #[(-934396624, 214), (3211, 92), (3357, 152), (113762, 137), (115131, 230), (3045982, 107), (3327652, 182), (94001407, 198), (110339814, 122), (113101617, 167)], 92) := by decide +kernel
theorem dX1_made_120 : decode cX1_made 120 = .ok (.aload_n 1, 1) := dk_43 (dk_at dksX1_made_3 0 rfl rfl)
theorem dX1_made_121 : decode cX1_made 121 = .ok (.ldc_w 346, 3) := dk_19 1 90 (dk_at dksX1_made_3 1 rfl rfl)
theorem dX1_made_124 : decode cX1_made 124 = .ok (.invokevirtual 100, 3) := dk_182 0 100 (dk_at dksX1_made_3 4 rfl rfl)
theorem dX1_made_127 : decode cX1_made 127 = .ok (.ifCond .eq 144, 3) := dk_153 0 144 (dk_at dksX1_made_3 7 rfl rfl)
theorem dX1_made_130 : decode cX1_made 130 = .ok (.iconst 0, 1) := dk_3 (dk_at dksX1_made_3 10 rfl rfl)
theorem dX1_made_131 : decode cX1_made 131 = .ok (.istore_n 2, 1) := dk_61 (dk_at dksX1_made_3 11 rfl rfl)
theorem dX1_made_132 : decode cX1_made 132 = .ok (.goto 139, 3) := dk_167 0 139 (dk_at dksX1_made_3 12 rfl rfl)
theorem dX1_made_135 : decode cX1_made 135 = .ok (.aload_n 1, 1) := dk_43 (dk_at dksX1_made_3 15 rfl rfl)
theorem dX1_made_136 : decode cX1_made 136 = .ok (.ldc_w 348, 3) := dk_19 1 92 (dk_at dksX1_made_3 16 rfl rfl)
theorem dX1_made_139 : decode cX1_made 139 = .ok (.invokevirtual 100, 3) := dk_182 0 100 (dk_at dksX1_made_3 19 rfl rfl)
theorem dX1_made_142 : decode cX1_made 142 = .ok (.ifCond .eq 129, 3) := dk_153 0 129 (dk_at dksX1_made_4 0 rfl rfl)
theorem dX1_made_145 : decode cX1_made 145 = .ok (.iconst 1, 1) := dk_4 (dk_at dksX1_made_4 3 rfl rfl)
theorem dX1_made_146 : decode cX1_made 146 = .ok (.istore_n 2, 1) := dk_61 (dk_at dksX1_made_4 4 rfl rfl)
theorem dX1_made_147 : decode cX1_made 147 = .ok (.goto 124, 3) := dk_167 0 124 (dk_at dksX1_made_4 5 rfl rfl)
theorem dX1_made_150 : decode cX1_made 150 = .ok (.aload_n 1, 1) := dk_43 (dk_at dksX1_made_4 8 rfl rfl)
theorem dX1_made_151 : decode cX1_made 151 = .ok (.ldc_w 349, 3) := dk_19 1 93 (dk_at dksX1_made_4 9 rfl rfl)
theorem dX1_made_154 : decode cX1_made 154 = .ok (.invokevirtual 100, 3) := dk_182 0 100 (dk_at dksX1_made_4 12 rfl rfl)
theorem dX1_made_157 : decode cX1_made 157 = .ok (.ifCond .eq 114, 3) := dk_153 0 114 (dk_at dksX1_made_4 15 rfl rfl)
theorem dX1_made_160 : decode cX1_made 160 = .ok (.iconst 2, 1) := dk_5 (dk_at dksX1_made_4 18 rfl rfl)
theorem dX1_made_161 : decode cX1_made 161 = .ok (.istore_n 2, 1) := dk_61 (dk_at dksX1_made_4 19 rfl rfl)
theorem dX1_made_162 : decode cX1_made 162 = .ok (.goto 109, 3) := dk_167 0 109 (dk_at dksX1_made_4 20 rfl rfl)
theorem dX1_made_165 : decode cX1_made 165 = .ok (.aload_n 1, 1) := dk_43 (dk_at dksX1_made_4 23 rfl rfl)
theorem dX1_made_166 : decode cX1_made 166 = .ok (.ldc_w 351, 3) := dk_19 1 95 (dk_at dksX1_made_5 0 rfl rfl)
theorem dX1_made_169 : decode cX1_made 169 = .ok (.invokevirtual 100, 3) := dk_182 0 100 (dk_at dksX1_made_5 3 rfl rfl)
theorem dX1_made_172 : decode cX1_made 172 = .ok (.ifCond .eq 99, 3) := dk_153 0 99 (dk_at dksX1_made_5 6 rfl rfl)
theorem dX1_made_175 : decode cX1_made 175 = .ok (.iconst 3, 1) := dk_6 (dk_at dksX1_made_5 9 rfl rfl)
theorem dX1_made_176 : decode cX1_made 176 = .ok (.istore_n 2, 1) := dk_61 (dk_at dksX1_made_5 10 rfl rfl)
theorem dX1_made_177 : decode cX1_made 177 = .ok (.goto 94, 3) := dk_167 0 94 (dk_at dksX1_made_5 11 rfl rfl)
theorem dX1_made_180 : decode cX1_made 180 = .ok (.aload_n 1, 1) := dk_43 (dk_at dksX1_made_5 14 rfl rfl)
theorem dX1_made_181 : decode cX1_made 181 = .ok (.ldc_w 353, 3) := dk_19 1 97 (dk_at dksX1_made_5 15 rfl rfl)
theorem dX1_made_184 : decode cX1_made 184 = .ok (.invokevirtual 100, 3) := dk_182 0 100 (dk_at dksX1_made_5 18 rfl rfl)
theorem dX1_made_187 : decode cX1_made 187 = .ok (.ifCond .eq 84, 3) := dk_153 0 84 (dk_at dksX1_made_5 21 rfl rfl)
theorem dX1_made_190 : decode cX1_made 190 = .ok (.iconst 4, 1) := dk_7 (dk_at dksX1_made_6 0 rfl rfl)
theorem dX1_made_191 : decode cX1_made 191 = .ok (.istore_n 2, 1) := dk_61 (dk_at dksX1_made_6 1 rfl rfl)
theorem dX1_made_192 : decode cX1_made 192 = .ok (.goto 79, 3) := dk_167 0 79 (dk_at dksX1_made_6 2 rfl rfl)
theorem dX1_made_195 : decode cX1_made 195 = .ok (.aload_n 1, 1) := dk_43 (dk_at dksX1_made_6 5 rfl rfl)
theorem dX1_made_196 : decode cX1_made 196 = .ok (.ldc_w 355, 3) := dk_19 1 99 (dk_at dksX1_made_6 6 rfl rfl)
theorem dX1_made_199 : decode cX1_made 199 = .ok (.invokevirtual 100, 3) := dk_182 0 100 (dk_at dksX1_made_6 9 rfl rfl)
theorem dX1_made_202 : decode cX1_made 202 = .ok (.ifCond .eq 69, 3) := dk_153 0 69 (dk_at dksX1_made_6 12 rfl rfl)
theorem dX1_made_205 : decode cX1_made 205 = .ok (.iconst 5, 1) := dk_8 (dk_at dksX1_made_6 15 rfl rfl)
theorem dX1_made_206 : decode cX1_made 206 = .ok (.istore_n 2, 1) := dk_61 (dk_at dksX1_made_6 16 rfl rfl)
theorem dX1_made_207 : decode cX1_made 207 = .ok (.goto 64, 3) := dk_167 0 64 (dk_at dksX1_made_6 17 rfl rfl)
theorem dX1_made_210 : decode cX1_made 210 = .ok (.aload_n 1, 1) := dk_43 (dk_at dksX1_made_6 20 rfl rfl)
theorem dX1_made_211 : decode cX1_made 211 = .ok (.ldc_w 357, 3) := dk_19 1 101 (dk_at dksX1_made_6 21 rfl rfl)
theorem dX1_made_214 : decode cX1_made 214 = .ok (.invokevirtual 100, 3) := dk_182 0 100 (dk_at dksX1_made_7 0 rfl rfl)
theorem dX1_made_217 : decode cX1_made 217 = .ok (.ifCond .eq 54, 3) := dk_153 0 54 (dk_at dksX1_made_7 3 rfl rfl)
theorem dX1_made_220 : decode cX1_made 220 = .ok (.bipush 6, 2) := dk_16 6 (dk_at dksX1_made_7 6 rfl rfl)
theorem dX1_made_222 : decode cX1_made 222 = .ok (.istore_n 2, 1) := dk_61 (dk_at dksX1_made_7 8 rfl rfl)
theorem dX1_made_223 : decode cX1_made 223 = .ok (.goto 48, 3) := dk_167 0 48 (dk_at dksX1_made_7 9 rfl rfl)
theorem dX1_made_226 : decode cX1_made 226 = .ok (.aload_n 1, 1) := dk_43 (dk_at dksX1_made_7 12 rfl rfl)
theorem dX1_made_227 : decode cX1_made 227 = .ok (.ldc_w 358, 3) := dk_19 1 102 (dk_at dksX1_made_7 13 rfl rfl)
theorem dX1_made_230 : decode cX1_made 230 = .ok (.invokevirtual 100, 3) := dk_182 0 100 (dk_at dksX1_made_7 16 rfl rfl)
theorem dX1_made_233 : decode cX1_made 233 = .ok (.ifCond .eq 38, 3) := dk_153 0 38 (dk_at dksX1_made_7 19 rfl rfl)
theorem dX1_made_236 : decode cX1_made 236 = .ok (.bipush 7, 2) := dk_16 7 (dk_at dksX1_made_7 22 rfl rfl)
theorem dX1_made_238 : decode cX1_made 238 = .ok (.istore_n 2, 1) := dk_61 (dk_at dksX1_made_8 0 rfl rfl)
theorem dX1_made_239 : decode cX1_made 239 = .ok (.goto 32, 3) := dk_167 0 32 (dk_at dksX1_made_8 1 rfl rfl)
theorem dX1_made_242 : decode cX1_made 242 = .ok (.aload_n 1, 1) := dk_43 (dk_at dksX1_made_8 4 rfl rfl)
theorem dX1_made_243 : decode cX1_made 243 = .ok (.ldc_w 360, 3) := dk_19 1 104 (dk_at dksX1_made_8 5 rfl rfl)
theorem dX1_made_246 : decode cX1_made 246 = .ok (.invokevirtual 100, 3) := dk_182 0 100 (dk_at dksX1_made_8 8 rfl rfl)
theorem dX1_made_249 : decode cX1_made 249 = .ok (.ifCond .eq 22, 3) := dk_153 0 22 (dk_at dksX1_made_8 11 rfl rfl)
theorem dX1_made_252 : decode cX1_made 252 = .ok (.bipush 8, 2) := dk_16 8 (dk_at dksX1_made_8 14 rfl rfl)
theorem dX1_made_254 : decode cX1_made 254 = .ok (.istore_n 2, 1) := dk_61 (dk_at dksX1_made_8 16 rfl rfl)
theorem dX1_made_255 : decode cX1_made 255 = .ok (.goto 16, 3) := dk_167 0 16 (dk_at dksX1_made_8 17 rfl rfl)
theorem dX1_made_258 : decode cX1_made 258 = .ok (.aload_n 1, 1) := dk_43 (dk_at dksX1_made_8 20 rfl rfl)
theorem dX1_made_259 : decode cX1_made 259 = .ok (.ldc_w 362, 3) := dk_19 1 106 (dk_at dksX1_made_8 21 rfl rfl)
theorem dX1_made_262 : decode cX1_made 262 = .ok (.invokevirtual 100, 3) := dk_182 0 100 (dk_at dksX1_made_9 0 rfl rfl)
theorem dX1_made_265 : decode cX1_made 265 = .ok (.ifCond .eq 6, 3) := dk_153 0 6 (dk_at dksX1_made_9 3 rfl rfl)
theorem dX1_made_268 : decode cX1_made 268 = .ok (.bipush 9, 2) := dk_16 9 (dk_at dksX1_made_9 6 rfl rfl)
theorem dX1_made_270 : decode cX1_made 270 = .ok (.istore_n 2, 1) := dk_61 (dk_at dksX1_made_9 8 rfl rfl)
theorem dX1_made_271 : decode cX1_made 271 = .ok (.iload_n 2, 1) := dk_28 (dk_at dksX1_made_9 9 rfl rfl)
theorem dX1_made_272 : decode cX1_made 272 = .ok (.tableswitch 142 0 9 #[56, 65, 73, 81, 90, 98, 107, 116, 124, 134], 56) := by decide +kernel
theorem dX1_made_328 : decode cX1_made 328 = .ok (.new 288, 3) := dk_187 1 32 (dk_at dksX1_made_11 0 rfl rfl)
theorem dX1_made_331 : decode cX1_made 331 = .ok (.dup, 1) := dk_89 (dk_at dksX1_made_11 3 rfl rfl)
theorem dX1_made_332 : decode cX1_made 332 = .ok (.iconst 0, 1) := dk_3 (dk_at dksX1_made_11 4 rfl rfl)
theorem dX1_made_333 : decode cX1_made 333 = .ok (.invokespecial 364, 3) := dk_183 1 108 (dk_at dksX1_made_11 5 rfl rfl)
theorem dX1_made_336 : decode cX1_made 336 = .ok (.areturn, 1) := dk_176 (dk_at dksX1_made_11 8 rfl rfl)
theorem dX1_made_337 : decode cX1_made 337 = .ok (.new 294, 3) := dk_187 1 38 (dk_at dksX1_made_11 9 rfl rfl)
theorem dX1_made_340 : decode cX1_made 340 = .ok (.dup, 1) := dk_89 (dk_at dksX1_made_11 12 rfl rfl)
theorem dX1_made_341 : decode cX1_made 341 = .ok (.invokespecial 365, 3) := dk_183 1 109 (dk_at dksX1_made_11 13 rfl rfl)
theorem dX1_made_344 : decode cX1_made 344 = .ok (.areturn, 1) := dk_176 (dk_at dksX1_made_11 16 rfl rfl)
theorem dX1_made_345 : decode cX1_made 345 = .ok (.new 300, 3) := dk_187 1 44 (dk_at dksX1_made_11 17 rfl rfl)
theorem dX1_made_348 : decode cX1_made 348 = .ok (.dup, 1) := dk_89 (dk_at dksX1_made_11 20 rfl rfl)
theorem dX1_made_349 : decode cX1_made 349 = .ok (.invokespecial 366, 3) := dk_183 1 110 (dk_at dksX1_made_11 21 rfl rfl)
theorem dX1_made_352 : decode cX1_made 352 = .ok (.areturn, 1) := dk_176 (dk_at dksX1_made_12 0 rfl rfl)
theorem dX1_made_353 : decode cX1_made 353 = .ok (.new 288, 3) := dk_187 1 32 (dk_at dksX1_made_12 1 rfl rfl)
theorem dX1_made_356 : decode cX1_made 356 = .ok (.dup, 1) := dk_89 (dk_at dksX1_made_12 4 rfl rfl)
theorem dX1_made_357 : decode cX1_made 357 = .ok (.iconst 3, 1) := dk_6 (dk_at dksX1_made_12 5 rfl rfl)
theorem dX1_made_358 : decode cX1_made 358 = .ok (.invokespecial 364, 3) := dk_183 1 108 (dk_at dksX1_made_12 6 rfl rfl)
theorem dX1_made_361 : decode cX1_made 361 = .ok (.areturn, 1) := dk_176 (dk_at dksX1_made_12 9 rfl rfl)
theorem dX1_made_362 : decode cX1_made 362 = .ok (.new 306, 3) := dk_187 1 50 (dk_at dksX1_made_12 10 rfl rfl)
theorem dX1_made_365 : decode cX1_made 365 = .ok (.dup, 1) := dk_89 (dk_at dksX1_made_12 13 rfl rfl)
theorem dX1_made_366 : decode cX1_made 366 = .ok (.invokespecial 367, 3) := dk_183 1 111 (dk_at dksX1_made_12 14 rfl rfl)
theorem dX1_made_369 : decode cX1_made 369 = .ok (.areturn, 1) := dk_176 (dk_at dksX1_made_12 17 rfl rfl)
theorem dX1_made_370 : decode cX1_made 370 = .ok (.new 316, 3) := dk_187 1 60 (dk_at dksX1_made_12 18 rfl rfl)
theorem dX1_made_373 : decode cX1_made 373 = .ok (.dup, 1) := dk_89 (dk_at dksX1_made_12 21 rfl rfl)
theorem dX1_made_374 : decode cX1_made 374 = .ok (.iconst 1, 1) := dk_4 (dk_at dksX1_made_12 22 rfl rfl)
theorem dX1_made_375 : decode cX1_made 375 = .ok (.invokespecial 368, 3) := dk_183 1 112 (dk_at dksX1_made_13 0 rfl rfl)
theorem dX1_made_378 : decode cX1_made 378 = .ok (.areturn, 1) := dk_176 (dk_at dksX1_made_13 3 rfl rfl)
theorem dX1_made_379 : decode cX1_made 379 = .ok (.new 316, 3) := dk_187 1 60 (dk_at dksX1_made_13 4 rfl rfl)
theorem dX1_made_382 : decode cX1_made 382 = .ok (.dup, 1) := dk_89 (dk_at dksX1_made_13 7 rfl rfl)
theorem dX1_made_383 : decode cX1_made 383 = .ok (.iconst 0, 1) := dk_3 (dk_at dksX1_made_13 8 rfl rfl)
theorem dX1_made_384 : decode cX1_made 384 = .ok (.invokespecial 368, 3) := dk_183 1 112 (dk_at dksX1_made_13 9 rfl rfl)
theorem dX1_made_387 : decode cX1_made 387 = .ok (.areturn, 1) := dk_176 (dk_at dksX1_made_13 12 rfl rfl)
theorem dX1_made_388 : decode cX1_made 388 = .ok (.new 323, 3) := dk_187 1 67 (dk_at dksX1_made_13 13 rfl rfl)
theorem dX1_made_391 : decode cX1_made 391 = .ok (.dup, 1) := dk_89 (dk_at dksX1_made_13 16 rfl rfl)
theorem dX1_made_392 : decode cX1_made 392 = .ok (.invokespecial 370, 3) := dk_183 1 114 (dk_at dksX1_made_13 17 rfl rfl)
theorem dX1_made_395 : decode cX1_made 395 = .ok (.areturn, 1) := dk_176 (dk_at dksX1_made_13 20 rfl rfl)
theorem dX1_made_396 : decode cX1_made 396 = .ok (.new 288, 3) := dk_187 1 32 (dk_at dksX1_made_13 21 rfl rfl)
theorem dX1_made_399 : decode cX1_made 399 = .ok (.dup, 1) := dk_89 (dk_at dksX1_made_14 0 rfl rfl)
theorem dX1_made_400 : decode cX1_made 400 = .ok (.bipush 8, 2) := dk_16 8 (dk_at dksX1_made_14 1 rfl rfl)
theorem dX1_made_402 : decode cX1_made 402 = .ok (.invokespecial 364, 3) := dk_183 1 108 (dk_at dksX1_made_14 3 rfl rfl)
theorem dX1_made_405 : decode cX1_made 405 = .ok (.areturn, 1) := dk_176 (dk_at dksX1_made_14 6 rfl rfl)
theorem dX1_made_406 : decode cX1_made 406 = .ok (.new 329, 3) := dk_187 1 73 (dk_at dksX1_made_14 7 rfl rfl)
theorem dX1_made_409 : decode cX1_made 409 = .ok (.dup, 1) := dk_89 (dk_at dksX1_made_14 10 rfl rfl)
theorem dX1_made_410 : decode cX1_made 410 = .ok (.invokespecial 371, 3) := dk_183 1 115 (dk_at dksX1_made_14 11 rfl rfl)
theorem dX1_made_413 : decode cX1_made 413 = .ok (.areturn, 1) := dk_176 (dk_at dksX1_made_14 14 rfl rfl)
theorem dX1_made_414 : decode cX1_made 414 = .ok (.new 335, 3) := dk_187 1 79 (dk_at dksX1_made_14 15 rfl rfl)
theorem dX1_made_417 : decode cX1_made 417 = .ok (.dup, 1) := dk_89 (dk_at dksX1_made_14 18 rfl rfl)
theorem dX1_made_418 : decode cX1_made 418 = .ok (.invokespecial 372, 3) := dk_183 1 116 (dk_at dksX1_made_14 19 rfl rfl)
theorem dX1_made_421 : decode cX1_made 421 = .ok (.areturn, 1) := dk_176 (dk_at dksX1_made_14 22 rfl rfl)
abbrev cX1_plain : ByteArray := prog_15_method_20_code
def yX1_plain : MethodName := ⟨RX1, "plain", "(LThrowRules$Plain;LThrowRules$Around;)V"⟩
def dkwX1_plain_4 : List UInt8 := [42, 180, 0, 131, 16, 12, 42, 180, 0, 119, 2, 182, 0, 167, 42, 16, 59, 182, 0, 183, 177]
abbrev dktX1_plain_4 : List UInt8 := dkwX1_plain_4 ++ []
def dkwX1_plain_3 : List UInt8 := [164, 0, 17, 42, 180, 0, 131, 16, 6, 42, 180, 0, 119, 2, 182, 0, 167, 42, 180, 1, 121, 153, 0, 17]
abbrev dktX1_plain_3 : List UInt8 := dkwX1_plain_3 ++ dktX1_plain_4
def dkwX1_plain_2 : List UInt8 := [167, 0, 60, 42, 180, 1, 117, 4, 181, 1, 141, 42, 180, 1, 117, 180, 1, 144, 182, 0, 144, 4]
abbrev dktX1_plain_2 : List UInt8 := dkwX1_plain_2 ++ dktX1_plain_3
def dkwX1_plain_1 : List UInt8 := [181, 1, 140, 42, 180, 1, 117, 199, 0, 19, 42, 180, 0, 131, 4, 42, 180, 0, 119, 2, 182, 0, 167]
abbrev dktX1_plain_1 : List UInt8 := dkwX1_plain_1 ++ dktX1_plain_2
def dkwX1_plain_0 : List UInt8 := [43, 180, 1, 133, 6, 160, 0, 100, 42, 42, 182, 0, 174, 44, 182, 1, 136, 43, 42, 180, 1, 117]
abbrev dktX1_plain_0 : List UInt8 := dkwX1_plain_0 ++ dktX1_plain_1
theorem dksX1_plain_0 : cX1_plain.data.toList.drop 0 = dktX1_plain_0 := by decide +kernel
theorem dksX1_plain_1 : cX1_plain.data.toList.drop 22 = dktX1_plain_1 := dk_seg dksX1_plain_0 22 rfl rfl
theorem dksX1_plain_2 : cX1_plain.data.toList.drop 45 = dktX1_plain_2 := dk_seg dksX1_plain_1 23 rfl rfl
theorem dksX1_plain_3 : cX1_plain.data.toList.drop 67 = dktX1_plain_3 := dk_seg dksX1_plain_2 22 rfl rfl
theorem dksX1_plain_4 : cX1_plain.data.toList.drop 91 = dktX1_plain_4 := dk_seg dksX1_plain_3 24 rfl rfl
theorem dX1_plain_0 : decode cX1_plain 0 = .ok (.aload_n 1, 1) := dk_43 (dk_at dksX1_plain_0 0 rfl rfl)
theorem dX1_plain_1 : decode cX1_plain 1 = .ok (.getfield 389, 3) := dk_180 1 133 (dk_at dksX1_plain_0 1 rfl rfl)
theorem dX1_plain_4 : decode cX1_plain 4 = .ok (.iconst 3, 1) := dk_6 (dk_at dksX1_plain_0 4 rfl rfl)
theorem dX1_plain_5 : decode cX1_plain 5 = .ok (.if_icmp .ne 100, 3) := dk_160 0 100 (dk_at dksX1_plain_0 5 rfl rfl)
theorem dX1_plain_8 : decode cX1_plain 8 = .ok (.aload_n 0, 1) := dk_42 (dk_at dksX1_plain_0 8 rfl rfl)
theorem dX1_plain_9 : decode cX1_plain 9 = .ok (.aload_n 0, 1) := dk_42 (dk_at dksX1_plain_0 9 rfl rfl)
theorem dX1_plain_10 : decode cX1_plain 10 = .ok (.invokevirtual 174, 3) := dk_182 0 174 (dk_at dksX1_plain_0 10 rfl rfl)
theorem dX1_plain_13 : decode cX1_plain 13 = .ok (.aload_n 2, 1) := dk_44 (dk_at dksX1_plain_0 13 rfl rfl)
theorem dX1_plain_14 : decode cX1_plain 14 = .ok (.invokevirtual 392, 3) := dk_182 1 136 (dk_at dksX1_plain_0 14 rfl rfl)
theorem dX1_plain_17 : decode cX1_plain 17 = .ok (.aload_n 1, 1) := dk_43 (dk_at dksX1_plain_0 17 rfl rfl)
theorem dX1_plain_18 : decode cX1_plain 18 = .ok (.aload_n 0, 1) := dk_42 (dk_at dksX1_plain_0 18 rfl rfl)
theorem dX1_plain_19 : decode cX1_plain 19 = .ok (.getfield 373, 3) := dk_180 1 117 (dk_at dksX1_plain_0 19 rfl rfl)
theorem dX1_plain_22 : decode cX1_plain 22 = .ok (.putfield 396, 3) := dk_181 1 140 (dk_at dksX1_plain_1 0 rfl rfl)
theorem dX1_plain_25 : decode cX1_plain 25 = .ok (.aload_n 0, 1) := dk_42 (dk_at dksX1_plain_1 3 rfl rfl)
theorem dX1_plain_26 : decode cX1_plain 26 = .ok (.getfield 373, 3) := dk_180 1 117 (dk_at dksX1_plain_1 4 rfl rfl)
theorem dX1_plain_29 : decode cX1_plain 29 = .ok (.ifnonnull 19, 3) := dk_199 0 19 (dk_at dksX1_plain_1 7 rfl rfl)
theorem dX1_plain_32 : decode cX1_plain 32 = .ok (.aload_n 0, 1) := dk_42 (dk_at dksX1_plain_1 10 rfl rfl)
theorem dX1_plain_33 : decode cX1_plain 33 = .ok (.getfield 131, 3) := dk_180 0 131 (dk_at dksX1_plain_1 11 rfl rfl)
theorem dX1_plain_36 : decode cX1_plain 36 = .ok (.iconst 1, 1) := dk_4 (dk_at dksX1_plain_1 14 rfl rfl)
theorem dX1_plain_37 : decode cX1_plain 37 = .ok (.aload_n 0, 1) := dk_42 (dk_at dksX1_plain_1 15 rfl rfl)
theorem dX1_plain_38 : decode cX1_plain 38 = .ok (.getfield 119, 3) := dk_180 0 119 (dk_at dksX1_plain_1 16 rfl rfl)
theorem dX1_plain_41 : decode cX1_plain 41 = .ok (.iconst (-1), 1) := dk_2 (dk_at dksX1_plain_1 19 rfl rfl)
theorem dX1_plain_42 : decode cX1_plain 42 = .ok (.invokevirtual 167, 3) := dk_182 0 167 (dk_at dksX1_plain_1 20 rfl rfl)
theorem dX1_plain_45 : decode cX1_plain 45 = .ok (.goto 60, 3) := dk_167 0 60 (dk_at dksX1_plain_2 0 rfl rfl)
theorem dX1_plain_48 : decode cX1_plain 48 = .ok (.aload_n 0, 1) := dk_42 (dk_at dksX1_plain_2 3 rfl rfl)
theorem dX1_plain_49 : decode cX1_plain 49 = .ok (.getfield 373, 3) := dk_180 1 117 (dk_at dksX1_plain_2 4 rfl rfl)
theorem dX1_plain_52 : decode cX1_plain 52 = .ok (.iconst 1, 1) := dk_4 (dk_at dksX1_plain_2 7 rfl rfl)
theorem dX1_plain_53 : decode cX1_plain 53 = .ok (.putfield 397, 3) := dk_181 1 141 (dk_at dksX1_plain_2 8 rfl rfl)
theorem dX1_plain_56 : decode cX1_plain 56 = .ok (.aload_n 0, 1) := dk_42 (dk_at dksX1_plain_2 11 rfl rfl)
theorem dX1_plain_57 : decode cX1_plain 57 = .ok (.getfield 373, 3) := dk_180 1 117 (dk_at dksX1_plain_2 12 rfl rfl)
theorem dX1_plain_60 : decode cX1_plain 60 = .ok (.getfield 400, 3) := dk_180 1 144 (dk_at dksX1_plain_2 15 rfl rfl)
theorem dX1_plain_63 : decode cX1_plain 63 = .ok (.invokevirtual 144, 3) := dk_182 0 144 (dk_at dksX1_plain_2 18 rfl rfl)
theorem dX1_plain_66 : decode cX1_plain 66 = .ok (.iconst 1, 1) := dk_4 (dk_at dksX1_plain_2 21 rfl rfl)
theorem dX1_plain_67 : decode cX1_plain 67 = .ok (.if_icmp .le 17, 3) := dk_164 0 17 (dk_at dksX1_plain_3 0 rfl rfl)
theorem dX1_plain_70 : decode cX1_plain 70 = .ok (.aload_n 0, 1) := dk_42 (dk_at dksX1_plain_3 3 rfl rfl)
theorem dX1_plain_71 : decode cX1_plain 71 = .ok (.getfield 131, 3) := dk_180 0 131 (dk_at dksX1_plain_3 4 rfl rfl)
theorem dX1_plain_74 : decode cX1_plain 74 = .ok (.bipush 6, 2) := dk_16 6 (dk_at dksX1_plain_3 7 rfl rfl)
theorem dX1_plain_76 : decode cX1_plain 76 = .ok (.aload_n 0, 1) := dk_42 (dk_at dksX1_plain_3 9 rfl rfl)
theorem dX1_plain_77 : decode cX1_plain 77 = .ok (.getfield 119, 3) := dk_180 0 119 (dk_at dksX1_plain_3 10 rfl rfl)
theorem dX1_plain_80 : decode cX1_plain 80 = .ok (.iconst (-1), 1) := dk_2 (dk_at dksX1_plain_3 13 rfl rfl)
theorem dX1_plain_81 : decode cX1_plain 81 = .ok (.invokevirtual 167, 3) := dk_182 0 167 (dk_at dksX1_plain_3 14 rfl rfl)
theorem dX1_plain_84 : decode cX1_plain 84 = .ok (.aload_n 0, 1) := dk_42 (dk_at dksX1_plain_3 17 rfl rfl)
theorem dX1_plain_85 : decode cX1_plain 85 = .ok (.getfield 377, 3) := dk_180 1 121 (dk_at dksX1_plain_3 18 rfl rfl)
theorem dX1_plain_88 : decode cX1_plain 88 = .ok (.ifCond .eq 17, 3) := dk_153 0 17 (dk_at dksX1_plain_3 21 rfl rfl)
theorem dX1_plain_91 : decode cX1_plain 91 = .ok (.aload_n 0, 1) := dk_42 (dk_at dksX1_plain_4 0 rfl rfl)
theorem dX1_plain_92 : decode cX1_plain 92 = .ok (.getfield 131, 3) := dk_180 0 131 (dk_at dksX1_plain_4 1 rfl rfl)
theorem dX1_plain_95 : decode cX1_plain 95 = .ok (.bipush 12, 2) := dk_16 12 (dk_at dksX1_plain_4 4 rfl rfl)
theorem dX1_plain_97 : decode cX1_plain 97 = .ok (.aload_n 0, 1) := dk_42 (dk_at dksX1_plain_4 6 rfl rfl)
theorem dX1_plain_98 : decode cX1_plain 98 = .ok (.getfield 119, 3) := dk_180 0 119 (dk_at dksX1_plain_4 7 rfl rfl)
theorem dX1_plain_101 : decode cX1_plain 101 = .ok (.iconst (-1), 1) := dk_2 (dk_at dksX1_plain_4 10 rfl rfl)
theorem dX1_plain_102 : decode cX1_plain 102 = .ok (.invokevirtual 167, 3) := dk_182 0 167 (dk_at dksX1_plain_4 11 rfl rfl)
theorem dX1_plain_105 : decode cX1_plain 105 = .ok (.aload_n 0, 1) := dk_42 (dk_at dksX1_plain_4 14 rfl rfl)
theorem dX1_plain_106 : decode cX1_plain 106 = .ok (.bipush 59, 2) := dk_16 59 (dk_at dksX1_plain_4 15 rfl rfl)
theorem dX1_plain_108 : decode cX1_plain 108 = .ok (.invokevirtual 183, 3) := dk_182 0 183 (dk_at dksX1_plain_4 17 rfl rfl)
theorem dX1_plain_111 : decode cX1_plain 111 = .ok (.return_, 1) := dk_177 (dk_at dksX1_plain_4 20 rfl rfl)
abbrev cX1_look : ByteArray := prog_15_method_19_code
def yX1_look : MethodName := ⟨RX1, "look", "(Ljava/lang/String;LThrowRules$Around;)V"⟩
def dkwX1_look_3 : List UInt8 := [62, 25, 4, 180, 1, 129, 58, 4, 167, 255, 192, 177]
abbrev dktX1_look_3 : List UInt8 := dkwX1_look_3 ++ []
def dkwX1_look_2 : List UInt8 := [153, 0, 17, 42, 25, 4, 180, 1, 124, 181, 1, 117, 42, 29, 181, 1, 121, 29, 25, 4, 180, 1, 81, 128]
abbrev dktX1_look_2 : List UInt8 := dkwX1_look_2 ++ dktX1_look_3
def dkwX1_look_1 : List UInt8 := [199, 0, 58, 25, 4, 180, 1, 124, 198, 0, 32, 25, 4, 180, 1, 124, 180, 1, 125, 43, 182, 0, 100]
abbrev dktX1_look_1 : List UInt8 := dkwX1_look_1 ++ dktX1_look_2
def dkwX1_look_0 : List UInt8 := [42, 1, 181, 1, 117, 42, 3, 181, 1, 121, 3, 62, 44, 58, 4, 25, 4, 198, 0, 65, 42, 180, 1, 117]
abbrev dktX1_look_0 : List UInt8 := dkwX1_look_0 ++ dktX1_look_1
theorem dksX1_look_0 : cX1_look.data.toList.drop 0 = dktX1_look_0 := by decide +kernel
theorem dksX1_look_1 : cX1_look.data.toList.drop 24 = dktX1_look_1 := dk_seg dksX1_look_0 24 rfl rfl
theorem dksX1_look_2 : cX1_look.data.toList.drop 47 = dktX1_look_2 := dk_seg dksX1_look_1 23 rfl rfl
theorem dksX1_look_3 : cX1_look.data.toList.drop 71 = dktX1_look_3 := dk_seg dksX1_look_2 24 rfl rfl
theorem dX1_look_0 : decode cX1_look 0 = .ok (.aload_n 0, 1) := dk_42 (dk_at dksX1_look_0 0 rfl rfl)
theorem dX1_look_1 : decode cX1_look 1 = .ok (.aconst_null, 1) := dk_1 (dk_at dksX1_look_0 1 rfl rfl)
theorem dX1_look_2 : decode cX1_look 2 = .ok (.putfield 373, 3) := dk_181 1 117 (dk_at dksX1_look_0 2 rfl rfl)
theorem dX1_look_5 : decode cX1_look 5 = .ok (.aload_n 0, 1) := dk_42 (dk_at dksX1_look_0 5 rfl rfl)
theorem dX1_look_6 : decode cX1_look 6 = .ok (.iconst 0, 1) := dk_3 (dk_at dksX1_look_0 6 rfl rfl)
theorem dX1_look_7 : decode cX1_look 7 = .ok (.putfield 377, 3) := dk_181 1 121 (dk_at dksX1_look_0 7 rfl rfl)
theorem dX1_look_10 : decode cX1_look 10 = .ok (.iconst 0, 1) := dk_3 (dk_at dksX1_look_0 10 rfl rfl)
theorem dX1_look_11 : decode cX1_look 11 = .ok (.istore_n 3, 1) := dk_62 (dk_at dksX1_look_0 11 rfl rfl)
theorem dX1_look_12 : decode cX1_look 12 = .ok (.aload_n 2, 1) := dk_44 (dk_at dksX1_look_0 12 rfl rfl)
theorem dX1_look_13 : decode cX1_look 13 = .ok (.astore 4, 2) := dk_58 4 (dk_at dksX1_look_0 13 rfl rfl)
theorem dX1_look_15 : decode cX1_look 15 = .ok (.aload 4, 2) := dk_25 4 (dk_at dksX1_look_0 15 rfl rfl)
theorem dX1_look_17 : decode cX1_look 17 = .ok (.ifnull 65, 3) := dk_198 0 65 (dk_at dksX1_look_0 17 rfl rfl)
theorem dX1_look_20 : decode cX1_look 20 = .ok (.aload_n 0, 1) := dk_42 (dk_at dksX1_look_0 20 rfl rfl)
theorem dX1_look_21 : decode cX1_look 21 = .ok (.getfield 373, 3) := dk_180 1 117 (dk_at dksX1_look_0 21 rfl rfl)
theorem dX1_look_24 : decode cX1_look 24 = .ok (.ifnonnull 58, 3) := dk_199 0 58 (dk_at dksX1_look_1 0 rfl rfl)
theorem dX1_look_27 : decode cX1_look 27 = .ok (.aload 4, 2) := dk_25 4 (dk_at dksX1_look_1 3 rfl rfl)
theorem dX1_look_29 : decode cX1_look 29 = .ok (.getfield 380, 3) := dk_180 1 124 (dk_at dksX1_look_1 5 rfl rfl)
theorem dX1_look_32 : decode cX1_look 32 = .ok (.ifnull 32, 3) := dk_198 0 32 (dk_at dksX1_look_1 8 rfl rfl)
theorem dX1_look_35 : decode cX1_look 35 = .ok (.aload 4, 2) := dk_25 4 (dk_at dksX1_look_1 11 rfl rfl)
theorem dX1_look_37 : decode cX1_look 37 = .ok (.getfield 380, 3) := dk_180 1 124 (dk_at dksX1_look_1 13 rfl rfl)
theorem dX1_look_40 : decode cX1_look 40 = .ok (.getfield 381, 3) := dk_180 1 125 (dk_at dksX1_look_1 16 rfl rfl)
theorem dX1_look_43 : decode cX1_look 43 = .ok (.aload_n 1, 1) := dk_43 (dk_at dksX1_look_1 19 rfl rfl)
theorem dX1_look_44 : decode cX1_look 44 = .ok (.invokevirtual 100, 3) := dk_182 0 100 (dk_at dksX1_look_1 20 rfl rfl)
theorem dX1_look_47 : decode cX1_look 47 = .ok (.ifCond .eq 17, 3) := dk_153 0 17 (dk_at dksX1_look_2 0 rfl rfl)
theorem dX1_look_50 : decode cX1_look 50 = .ok (.aload_n 0, 1) := dk_42 (dk_at dksX1_look_2 3 rfl rfl)
theorem dX1_look_51 : decode cX1_look 51 = .ok (.aload 4, 2) := dk_25 4 (dk_at dksX1_look_2 4 rfl rfl)
theorem dX1_look_53 : decode cX1_look 53 = .ok (.getfield 380, 3) := dk_180 1 124 (dk_at dksX1_look_2 6 rfl rfl)
theorem dX1_look_56 : decode cX1_look 56 = .ok (.putfield 373, 3) := dk_181 1 117 (dk_at dksX1_look_2 9 rfl rfl)
theorem dX1_look_59 : decode cX1_look 59 = .ok (.aload_n 0, 1) := dk_42 (dk_at dksX1_look_2 12 rfl rfl)
theorem dX1_look_60 : decode cX1_look 60 = .ok (.iload_n 3, 1) := dk_29 (dk_at dksX1_look_2 13 rfl rfl)
theorem dX1_look_61 : decode cX1_look 61 = .ok (.putfield 377, 3) := dk_181 1 121 (dk_at dksX1_look_2 14 rfl rfl)
theorem dX1_look_64 : decode cX1_look 64 = .ok (.iload_n 3, 1) := dk_29 (dk_at dksX1_look_2 17 rfl rfl)
theorem dX1_look_65 : decode cX1_look 65 = .ok (.aload 4, 2) := dk_25 4 (dk_at dksX1_look_2 18 rfl rfl)
theorem dX1_look_67 : decode cX1_look 67 = .ok (.getfield 337, 3) := dk_180 1 81 (dk_at dksX1_look_2 20 rfl rfl)
theorem dX1_look_70 : decode cX1_look 70 = .ok (.ior, 1) := dk_128 (dk_at dksX1_look_2 23 rfl rfl)
theorem dX1_look_71 : decode cX1_look 71 = .ok (.istore_n 3, 1) := dk_62 (dk_at dksX1_look_3 0 rfl rfl)
theorem dX1_look_72 : decode cX1_look 72 = .ok (.aload 4, 2) := dk_25 4 (dk_at dksX1_look_3 1 rfl rfl)
theorem dX1_look_74 : decode cX1_look 74 = .ok (.getfield 385, 3) := dk_180 1 129 (dk_at dksX1_look_3 3 rfl rfl)
theorem dX1_look_77 : decode cX1_look 77 = .ok (.astore 4, 2) := dk_58 4 (dk_at dksX1_look_3 6 rfl rfl)
theorem dX1_look_79 : decode cX1_look 79 = .ok (.goto (-64), 3) := dk_167 255 192 (dk_at dksX1_look_3 8 rfl rfl)
theorem dX1_look_82 : decode cX1_look 82 = .ok (.return_, 1) := dk_177 (dk_at dksX1_look_3 11 rfl rfl)
abbrev cX1_call : ByteArray := prog_15_method_21_code
def yX1_call : MethodName := ⟨RX1, "call", "(LThrowRules$Call;LThrowRules$Around;)V"⟩
def dkwX1_call_3 : List UInt8 := [177]
abbrev dktX1_call_3 : List UInt8 := dkwX1_call_3 ++ []
def dkwX1_call_2 : List UInt8 := [183, 0, 239, 78, 45, 4, 181, 1, 81, 43, 42, 45, 182, 0, 242, 181, 1, 152, 42, 16, 59, 182, 0, 183]
abbrev dktX1_call_2 : List UInt8 := dkwX1_call_2 ++ dktX1_call_3
def dkwX1_call_1 : List UInt8 := [180, 0, 119, 184, 1, 146, 182, 0, 211, 87, 42, 180, 0, 56, 16, 123, 160, 0, 26, 187, 0, 237, 89, 44]
abbrev dktX1_call_1 : List UInt8 := dkwX1_call_1 ++ dktX1_call_2
def dkwX1_call_0 : List UInt8 := [43, 42, 182, 0, 174, 181, 1, 145, 42, 180, 0, 21, 43, 182, 0, 211, 87, 42, 180, 0, 25, 42]
abbrev dktX1_call_0 : List UInt8 := dkwX1_call_0 ++ dktX1_call_1
theorem dksX1_call_0 : cX1_call.data.toList.drop 0 = dktX1_call_0 := by decide +kernel
theorem dksX1_call_1 : cX1_call.data.toList.drop 22 = dktX1_call_1 := dk_seg dksX1_call_0 22 rfl rfl
theorem dksX1_call_2 : cX1_call.data.toList.drop 46 = dktX1_call_2 := dk_seg dksX1_call_1 24 rfl rfl
theorem dksX1_call_3 : cX1_call.data.toList.drop 70 = dktX1_call_3 := dk_seg dksX1_call_2 24 rfl rfl
theorem dX1_call_0 : decode cX1_call 0 = .ok (.aload_n 1, 1) := dk_43 (dk_at dksX1_call_0 0 rfl rfl)
theorem dX1_call_1 : decode cX1_call 1 = .ok (.aload_n 0, 1) := dk_42 (dk_at dksX1_call_0 1 rfl rfl)
theorem dX1_call_2 : decode cX1_call 2 = .ok (.invokevirtual 174, 3) := dk_182 0 174 (dk_at dksX1_call_0 2 rfl rfl)
theorem dX1_call_5 : decode cX1_call 5 = .ok (.putfield 401, 3) := dk_181 1 145 (dk_at dksX1_call_0 5 rfl rfl)
theorem dX1_call_8 : decode cX1_call 8 = .ok (.aload_n 0, 1) := dk_42 (dk_at dksX1_call_0 8 rfl rfl)
theorem dX1_call_9 : decode cX1_call 9 = .ok (.getfield 21, 3) := dk_180 0 21 (dk_at dksX1_call_0 9 rfl rfl)
theorem dX1_call_12 : decode cX1_call 12 = .ok (.aload_n 1, 1) := dk_43 (dk_at dksX1_call_0 12 rfl rfl)
theorem dX1_call_13 : decode cX1_call 13 = .ok (.invokevirtual 211, 3) := dk_182 0 211 (dk_at dksX1_call_0 13 rfl rfl)
theorem dX1_call_16 : decode cX1_call 16 = .ok (.pop, 1) := dk_87 (dk_at dksX1_call_0 16 rfl rfl)
theorem dX1_call_17 : decode cX1_call 17 = .ok (.aload_n 0, 1) := dk_42 (dk_at dksX1_call_0 17 rfl rfl)
theorem dX1_call_18 : decode cX1_call 18 = .ok (.getfield 25, 3) := dk_180 0 25 (dk_at dksX1_call_0 18 rfl rfl)
theorem dX1_call_21 : decode cX1_call 21 = .ok (.aload_n 0, 1) := dk_42 (dk_at dksX1_call_0 21 rfl rfl)
theorem dX1_call_22 : decode cX1_call 22 = .ok (.getfield 119, 3) := dk_180 0 119 (dk_at dksX1_call_1 0 rfl rfl)
theorem dX1_call_25 : decode cX1_call 25 = .ok (.invokestatic 402, 3) := dk_184 1 146 (dk_at dksX1_call_1 3 rfl rfl)
theorem dX1_call_28 : decode cX1_call 28 = .ok (.invokevirtual 211, 3) := dk_182 0 211 (dk_at dksX1_call_1 6 rfl rfl)
theorem dX1_call_31 : decode cX1_call 31 = .ok (.pop, 1) := dk_87 (dk_at dksX1_call_1 9 rfl rfl)
theorem dX1_call_32 : decode cX1_call 32 = .ok (.aload_n 0, 1) := dk_42 (dk_at dksX1_call_1 10 rfl rfl)
theorem dX1_call_33 : decode cX1_call 33 = .ok (.getfield 56, 3) := dk_180 0 56 (dk_at dksX1_call_1 11 rfl rfl)
theorem dX1_call_36 : decode cX1_call 36 = .ok (.bipush 123, 2) := dk_16 123 (dk_at dksX1_call_1 14 rfl rfl)
theorem dX1_call_38 : decode cX1_call 38 = .ok (.if_icmp .ne 26, 3) := dk_160 0 26 (dk_at dksX1_call_1 16 rfl rfl)
theorem dX1_call_41 : decode cX1_call 41 = .ok (.new 237, 3) := dk_187 0 237 (dk_at dksX1_call_1 19 rfl rfl)
theorem dX1_call_44 : decode cX1_call 44 = .ok (.dup, 1) := dk_89 (dk_at dksX1_call_1 22 rfl rfl)
theorem dX1_call_45 : decode cX1_call 45 = .ok (.aload_n 2, 1) := dk_44 (dk_at dksX1_call_1 23 rfl rfl)
theorem dX1_call_46 : decode cX1_call 46 = .ok (.invokespecial 239, 3) := dk_183 0 239 (dk_at dksX1_call_2 0 rfl rfl)
theorem dX1_call_49 : decode cX1_call 49 = .ok (.astore_n 3, 1) := dk_78 (dk_at dksX1_call_2 3 rfl rfl)
theorem dX1_call_50 : decode cX1_call 50 = .ok (.aload_n 3, 1) := dk_45 (dk_at dksX1_call_2 4 rfl rfl)
theorem dX1_call_51 : decode cX1_call 51 = .ok (.iconst 1, 1) := dk_4 (dk_at dksX1_call_2 5 rfl rfl)
theorem dX1_call_52 : decode cX1_call 52 = .ok (.putfield 337, 3) := dk_181 1 81 (dk_at dksX1_call_2 6 rfl rfl)
theorem dX1_call_55 : decode cX1_call 55 = .ok (.aload_n 1, 1) := dk_43 (dk_at dksX1_call_2 9 rfl rfl)
theorem dX1_call_56 : decode cX1_call 56 = .ok (.aload_n 0, 1) := dk_42 (dk_at dksX1_call_2 10 rfl rfl)
theorem dX1_call_57 : decode cX1_call 57 = .ok (.aload_n 3, 1) := dk_45 (dk_at dksX1_call_2 11 rfl rfl)
theorem dX1_call_58 : decode cX1_call 58 = .ok (.invokevirtual 242, 3) := dk_182 0 242 (dk_at dksX1_call_2 12 rfl rfl)
theorem dX1_call_61 : decode cX1_call 61 = .ok (.putfield 408, 3) := dk_181 1 152 (dk_at dksX1_call_2 15 rfl rfl)
theorem dX1_call_64 : decode cX1_call 64 = .ok (.aload_n 0, 1) := dk_42 (dk_at dksX1_call_2 18 rfl rfl)
theorem dX1_call_65 : decode cX1_call 65 = .ok (.bipush 59, 2) := dk_16 59 (dk_at dksX1_call_2 19 rfl rfl)
theorem dX1_call_67 : decode cX1_call 67 = .ok (.invokevirtual 183, 3) := dk_182 0 183 (dk_at dksX1_call_2 21 rfl rfl)
theorem dX1_call_70 : decode cX1_call 70 = .ok (.return_, 1) := dk_177 (dk_at dksX1_call_3 0 rfl rfl)
abbrev cX1_thrown : ByteArray := prog_15_method_22_code
def yX1_thrown : MethodName := ⟨RX1, "thrown", "(LThrowRules$Throw;LThrowRules$Around;)V"⟩
def dkwX1_thrown_3 : List UInt8 := [182, 0, 211, 87, 42, 16, 59, 182, 0, 183, 177]
abbrev dktX1_thrown_3 : List UInt8 := dkwX1_thrown_3 ++ []
def dkwX1_thrown_2 : List UInt8 := [153, 0, 27, 42, 180, 0, 31, 43, 182, 0, 211, 87, 42, 180, 0, 34, 42, 180, 0, 119, 184, 1, 146]
abbrev dktX1_thrown_2 : List UInt8 := dkwX1_thrown_2 ++ dktX1_thrown_3
def dkwX1_thrown_1 : List UInt8 := [199, 0, 19, 43, 42, 45, 42, 180, 0, 119, 182, 0, 185, 181, 1, 155, 167, 0, 34, 42, 180, 1, 121]
abbrev dktX1_thrown_1 : List UInt8 := dkwX1_thrown_1 ++ dktX1_thrown_2
def dkwX1_thrown_0 : List UInt8 := [42, 182, 0, 174, 78, 42, 45, 44, 182, 1, 136, 43, 42, 180, 1, 117, 181, 1, 154, 42, 180, 1, 117]
abbrev dktX1_thrown_0 : List UInt8 := dkwX1_thrown_0 ++ dktX1_thrown_1
theorem dksX1_thrown_0 : cX1_thrown.data.toList.drop 0 = dktX1_thrown_0 := by decide +kernel
theorem dksX1_thrown_1 : cX1_thrown.data.toList.drop 23 = dktX1_thrown_1 := dk_seg dksX1_thrown_0 23 rfl rfl
theorem dksX1_thrown_2 : cX1_thrown.data.toList.drop 46 = dktX1_thrown_2 := dk_seg dksX1_thrown_1 23 rfl rfl
theorem dksX1_thrown_3 : cX1_thrown.data.toList.drop 69 = dktX1_thrown_3 := dk_seg dksX1_thrown_2 23 rfl rfl
theorem dX1_thrown_0 : decode cX1_thrown 0 = .ok (.aload_n 0, 1) := dk_42 (dk_at dksX1_thrown_0 0 rfl rfl)
theorem dX1_thrown_1 : decode cX1_thrown 1 = .ok (.invokevirtual 174, 3) := dk_182 0 174 (dk_at dksX1_thrown_0 1 rfl rfl)
theorem dX1_thrown_4 : decode cX1_thrown 4 = .ok (.astore_n 3, 1) := dk_78 (dk_at dksX1_thrown_0 4 rfl rfl)
theorem dX1_thrown_5 : decode cX1_thrown 5 = .ok (.aload_n 0, 1) := dk_42 (dk_at dksX1_thrown_0 5 rfl rfl)
theorem dX1_thrown_6 : decode cX1_thrown 6 = .ok (.aload_n 3, 1) := dk_45 (dk_at dksX1_thrown_0 6 rfl rfl)
theorem dX1_thrown_7 : decode cX1_thrown 7 = .ok (.aload_n 2, 1) := dk_44 (dk_at dksX1_thrown_0 7 rfl rfl)
theorem dX1_thrown_8 : decode cX1_thrown 8 = .ok (.invokevirtual 392, 3) := dk_182 1 136 (dk_at dksX1_thrown_0 8 rfl rfl)
theorem dX1_thrown_11 : decode cX1_thrown 11 = .ok (.aload_n 1, 1) := dk_43 (dk_at dksX1_thrown_0 11 rfl rfl)
theorem dX1_thrown_12 : decode cX1_thrown 12 = .ok (.aload_n 0, 1) := dk_42 (dk_at dksX1_thrown_0 12 rfl rfl)
theorem dX1_thrown_13 : decode cX1_thrown 13 = .ok (.getfield 373, 3) := dk_180 1 117 (dk_at dksX1_thrown_0 13 rfl rfl)
theorem dX1_thrown_16 : decode cX1_thrown 16 = .ok (.putfield 410, 3) := dk_181 1 154 (dk_at dksX1_thrown_0 16 rfl rfl)
theorem dX1_thrown_19 : decode cX1_thrown 19 = .ok (.aload_n 0, 1) := dk_42 (dk_at dksX1_thrown_0 19 rfl rfl)
theorem dX1_thrown_20 : decode cX1_thrown 20 = .ok (.getfield 373, 3) := dk_180 1 117 (dk_at dksX1_thrown_0 20 rfl rfl)
theorem dX1_thrown_23 : decode cX1_thrown 23 = .ok (.ifnonnull 19, 3) := dk_199 0 19 (dk_at dksX1_thrown_1 0 rfl rfl)
theorem dX1_thrown_26 : decode cX1_thrown 26 = .ok (.aload_n 1, 1) := dk_43 (dk_at dksX1_thrown_1 3 rfl rfl)
theorem dX1_thrown_27 : decode cX1_thrown 27 = .ok (.aload_n 0, 1) := dk_42 (dk_at dksX1_thrown_1 4 rfl rfl)
theorem dX1_thrown_28 : decode cX1_thrown 28 = .ok (.aload_n 3, 1) := dk_45 (dk_at dksX1_thrown_1 5 rfl rfl)
theorem dX1_thrown_29 : decode cX1_thrown 29 = .ok (.aload_n 0, 1) := dk_42 (dk_at dksX1_thrown_1 6 rfl rfl)
theorem dX1_thrown_30 : decode cX1_thrown 30 = .ok (.getfield 119, 3) := dk_180 0 119 (dk_at dksX1_thrown_1 7 rfl rfl)
theorem dX1_thrown_33 : decode cX1_thrown 33 = .ok (.invokevirtual 185, 3) := dk_182 0 185 (dk_at dksX1_thrown_1 10 rfl rfl)
theorem dX1_thrown_36 : decode cX1_thrown 36 = .ok (.putfield 411, 3) := dk_181 1 155 (dk_at dksX1_thrown_1 13 rfl rfl)
theorem dX1_thrown_39 : decode cX1_thrown 39 = .ok (.goto 34, 3) := dk_167 0 34 (dk_at dksX1_thrown_1 16 rfl rfl)
theorem dX1_thrown_42 : decode cX1_thrown 42 = .ok (.aload_n 0, 1) := dk_42 (dk_at dksX1_thrown_1 19 rfl rfl)
theorem dX1_thrown_43 : decode cX1_thrown 43 = .ok (.getfield 377, 3) := dk_180 1 121 (dk_at dksX1_thrown_1 20 rfl rfl)
theorem dX1_thrown_46 : decode cX1_thrown 46 = .ok (.ifCond .eq 27, 3) := dk_153 0 27 (dk_at dksX1_thrown_2 0 rfl rfl)
theorem dX1_thrown_49 : decode cX1_thrown 49 = .ok (.aload_n 0, 1) := dk_42 (dk_at dksX1_thrown_2 3 rfl rfl)
theorem dX1_thrown_50 : decode cX1_thrown 50 = .ok (.getfield 31, 3) := dk_180 0 31 (dk_at dksX1_thrown_2 4 rfl rfl)
theorem dX1_thrown_53 : decode cX1_thrown 53 = .ok (.aload_n 1, 1) := dk_43 (dk_at dksX1_thrown_2 7 rfl rfl)
theorem dX1_thrown_54 : decode cX1_thrown 54 = .ok (.invokevirtual 211, 3) := dk_182 0 211 (dk_at dksX1_thrown_2 8 rfl rfl)
theorem dX1_thrown_57 : decode cX1_thrown 57 = .ok (.pop, 1) := dk_87 (dk_at dksX1_thrown_2 11 rfl rfl)
theorem dX1_thrown_58 : decode cX1_thrown 58 = .ok (.aload_n 0, 1) := dk_42 (dk_at dksX1_thrown_2 12 rfl rfl)
theorem dX1_thrown_59 : decode cX1_thrown 59 = .ok (.getfield 34, 3) := dk_180 0 34 (dk_at dksX1_thrown_2 13 rfl rfl)
theorem dX1_thrown_62 : decode cX1_thrown 62 = .ok (.aload_n 0, 1) := dk_42 (dk_at dksX1_thrown_2 16 rfl rfl)
theorem dX1_thrown_63 : decode cX1_thrown 63 = .ok (.getfield 119, 3) := dk_180 0 119 (dk_at dksX1_thrown_2 17 rfl rfl)
theorem dX1_thrown_66 : decode cX1_thrown 66 = .ok (.invokestatic 402, 3) := dk_184 1 146 (dk_at dksX1_thrown_2 20 rfl rfl)
theorem dX1_thrown_69 : decode cX1_thrown 69 = .ok (.invokevirtual 211, 3) := dk_182 0 211 (dk_at dksX1_thrown_3 0 rfl rfl)
theorem dX1_thrown_72 : decode cX1_thrown 72 = .ok (.pop, 1) := dk_87 (dk_at dksX1_thrown_3 3 rfl rfl)
theorem dX1_thrown_73 : decode cX1_thrown 73 = .ok (.aload_n 0, 1) := dk_42 (dk_at dksX1_thrown_3 4 rfl rfl)
theorem dX1_thrown_74 : decode cX1_thrown 74 = .ok (.bipush 59, 2) := dk_16 59 (dk_at dksX1_thrown_3 5 rfl rfl)
theorem dX1_thrown_76 : decode cX1_thrown 76 = .ok (.invokevirtual 183, 3) := dk_182 0 183 (dk_at dksX1_thrown_3 7 rfl rfl)
theorem dX1_thrown_79 : decode cX1_thrown 79 = .ok (.return_, 1) := dk_177 (dk_at dksX1_thrown_3 10 rfl rfl)
abbrev cX1_leave : ByteArray := prog_15_method_23_code
def yX1_leave : MethodName := ⟨RX1, "leave", "(LThrowRules$Break;LThrowRules$Around;)V"⟩
def dkwX1_leave_3 : List UInt8 := [182, 0, 211, 87, 177]
abbrev dktX1_leave_3 : List UInt8 := dkwX1_leave_3 ++ []
def dkwX1_leave_2 : List UInt8 := [180, 1, 129, 78, 167, 255, 206, 43, 180, 1, 158, 198, 0, 15, 43, 180, 1, 158, 180, 1, 164, 43]
abbrev dktX1_leave_2 : List UInt8 := dkwX1_leave_2 ++ dktX1_leave_3
def dkwX1_leave_1 : List UInt8 := [198, 0, 15, 43, 180, 1, 163, 45, 180, 1, 159, 182, 0, 211, 87, 43, 45, 180, 1, 62, 181, 1, 158, 45]
abbrev dktX1_leave_1 : List UInt8 := dkwX1_leave_1 ++ dktX1_leave_2
def dkwX1_leave_0 : List UInt8 := [44, 78, 45, 198, 0, 52, 43, 180, 1, 158, 199, 0, 45, 45, 180, 1, 81, 154, 0, 38, 45, 180, 1, 159]
abbrev dktX1_leave_0 : List UInt8 := dkwX1_leave_0 ++ dktX1_leave_1
theorem dksX1_leave_0 : cX1_leave.data.toList.drop 0 = dktX1_leave_0 := by decide +kernel
theorem dksX1_leave_1 : cX1_leave.data.toList.drop 24 = dktX1_leave_1 := dk_seg dksX1_leave_0 24 rfl rfl
theorem dksX1_leave_2 : cX1_leave.data.toList.drop 48 = dktX1_leave_2 := dk_seg dksX1_leave_1 24 rfl rfl
theorem dksX1_leave_3 : cX1_leave.data.toList.drop 70 = dktX1_leave_3 := dk_seg dksX1_leave_2 22 rfl rfl
theorem dX1_leave_0 : decode cX1_leave 0 = .ok (.aload_n 2, 1) := dk_44 (dk_at dksX1_leave_0 0 rfl rfl)
theorem dX1_leave_1 : decode cX1_leave 1 = .ok (.astore_n 3, 1) := dk_78 (dk_at dksX1_leave_0 1 rfl rfl)
theorem dX1_leave_2 : decode cX1_leave 2 = .ok (.aload_n 3, 1) := dk_45 (dk_at dksX1_leave_0 2 rfl rfl)
theorem dX1_leave_3 : decode cX1_leave 3 = .ok (.ifnull 52, 3) := dk_198 0 52 (dk_at dksX1_leave_0 3 rfl rfl)
theorem dX1_leave_6 : decode cX1_leave 6 = .ok (.aload_n 1, 1) := dk_43 (dk_at dksX1_leave_0 6 rfl rfl)
theorem dX1_leave_7 : decode cX1_leave 7 = .ok (.getfield 414, 3) := dk_180 1 158 (dk_at dksX1_leave_0 7 rfl rfl)
theorem dX1_leave_10 : decode cX1_leave 10 = .ok (.ifnonnull 45, 3) := dk_199 0 45 (dk_at dksX1_leave_0 10 rfl rfl)
theorem dX1_leave_13 : decode cX1_leave 13 = .ok (.aload_n 3, 1) := dk_45 (dk_at dksX1_leave_0 13 rfl rfl)
theorem dX1_leave_14 : decode cX1_leave 14 = .ok (.getfield 337, 3) := dk_180 1 81 (dk_at dksX1_leave_0 14 rfl rfl)
theorem dX1_leave_17 : decode cX1_leave 17 = .ok (.ifCond .ne 38, 3) := dk_154 0 38 (dk_at dksX1_leave_0 17 rfl rfl)
theorem dX1_leave_20 : decode cX1_leave 20 = .ok (.aload_n 3, 1) := dk_45 (dk_at dksX1_leave_0 20 rfl rfl)
theorem dX1_leave_21 : decode cX1_leave 21 = .ok (.getfield 415, 3) := dk_180 1 159 (dk_at dksX1_leave_0 21 rfl rfl)
theorem dX1_leave_24 : decode cX1_leave 24 = .ok (.ifnull 15, 3) := dk_198 0 15 (dk_at dksX1_leave_1 0 rfl rfl)
theorem dX1_leave_27 : decode cX1_leave 27 = .ok (.aload_n 1, 1) := dk_43 (dk_at dksX1_leave_1 3 rfl rfl)
theorem dX1_leave_28 : decode cX1_leave 28 = .ok (.getfield 419, 3) := dk_180 1 163 (dk_at dksX1_leave_1 4 rfl rfl)
theorem dX1_leave_31 : decode cX1_leave 31 = .ok (.aload_n 3, 1) := dk_45 (dk_at dksX1_leave_1 7 rfl rfl)
theorem dX1_leave_32 : decode cX1_leave 32 = .ok (.getfield 415, 3) := dk_180 1 159 (dk_at dksX1_leave_1 8 rfl rfl)
theorem dX1_leave_35 : decode cX1_leave 35 = .ok (.invokevirtual 211, 3) := dk_182 0 211 (dk_at dksX1_leave_1 11 rfl rfl)
theorem dX1_leave_38 : decode cX1_leave 38 = .ok (.pop, 1) := dk_87 (dk_at dksX1_leave_1 14 rfl rfl)
theorem dX1_leave_39 : decode cX1_leave 39 = .ok (.aload_n 1, 1) := dk_43 (dk_at dksX1_leave_1 15 rfl rfl)
theorem dX1_leave_40 : decode cX1_leave 40 = .ok (.aload_n 3, 1) := dk_45 (dk_at dksX1_leave_1 16 rfl rfl)
theorem dX1_leave_41 : decode cX1_leave 41 = .ok (.getfield 318, 3) := dk_180 1 62 (dk_at dksX1_leave_1 17 rfl rfl)
theorem dX1_leave_44 : decode cX1_leave 44 = .ok (.putfield 414, 3) := dk_181 1 158 (dk_at dksX1_leave_1 20 rfl rfl)
theorem dX1_leave_47 : decode cX1_leave 47 = .ok (.aload_n 3, 1) := dk_45 (dk_at dksX1_leave_1 23 rfl rfl)
theorem dX1_leave_48 : decode cX1_leave 48 = .ok (.getfield 385, 3) := dk_180 1 129 (dk_at dksX1_leave_2 0 rfl rfl)
theorem dX1_leave_51 : decode cX1_leave 51 = .ok (.astore_n 3, 1) := dk_78 (dk_at dksX1_leave_2 3 rfl rfl)
theorem dX1_leave_52 : decode cX1_leave 52 = .ok (.goto (-50), 3) := dk_167 255 206 (dk_at dksX1_leave_2 4 rfl rfl)
theorem dX1_leave_55 : decode cX1_leave 55 = .ok (.aload_n 1, 1) := dk_43 (dk_at dksX1_leave_2 7 rfl rfl)
theorem dX1_leave_56 : decode cX1_leave 56 = .ok (.getfield 414, 3) := dk_180 1 158 (dk_at dksX1_leave_2 8 rfl rfl)
theorem dX1_leave_59 : decode cX1_leave 59 = .ok (.ifnull 15, 3) := dk_198 0 15 (dk_at dksX1_leave_2 11 rfl rfl)
theorem dX1_leave_62 : decode cX1_leave 62 = .ok (.aload_n 1, 1) := dk_43 (dk_at dksX1_leave_2 14 rfl rfl)
theorem dX1_leave_63 : decode cX1_leave 63 = .ok (.getfield 414, 3) := dk_180 1 158 (dk_at dksX1_leave_2 15 rfl rfl)
theorem dX1_leave_66 : decode cX1_leave 66 = .ok (.getfield 420, 3) := dk_180 1 164 (dk_at dksX1_leave_2 18 rfl rfl)
theorem dX1_leave_69 : decode cX1_leave 69 = .ok (.aload_n 1, 1) := dk_43 (dk_at dksX1_leave_2 21 rfl rfl)
theorem dX1_leave_70 : decode cX1_leave 70 = .ok (.invokevirtual 211, 3) := dk_182 0 211 (dk_at dksX1_leave_3 0 rfl rfl)
theorem dX1_leave_73 : decode cX1_leave 73 = .ok (.pop, 1) := dk_87 (dk_at dksX1_leave_3 3 rfl rfl)
theorem dX1_leave_74 : decode cX1_leave 74 = .ok (.return_, 1) := dk_177 (dk_at dksX1_leave_3 4 rfl rfl)
abbrev cX1_tried : ByteArray := prog_15_method_24_code
def yX1_tried : MethodName := ⟨RX1, "tried", "(LThrowRules$Try;LThrowRules$Around;)V"⟩
def dkwX1_tried_9 : List UInt8 := [181, 1, 187, 177]
abbrev dktX1_tried_9 : List UInt8 := dkwX1_tried_9 ++ []
def dkwX1_tried_8 : List UInt8 := [182, 0, 111, 153, 0, 23, 42, 182, 0, 108, 43, 42, 187, 0, 237, 89, 44, 183, 0, 239, 182, 0, 242]
abbrev dktX1_tried_8 : List UInt8 := dkwX1_tried_8 ++ dktX1_tried_9
def dkwX1_tried_7 : List UInt8 := [162, 0, 7, 4, 167, 0, 4, 3, 182, 0, 104, 42, 43, 45, 182, 1, 184, 167, 255, 220, 42, 19, 1, 179]
abbrev dktX1_tried_7 : List UInt8 := dkwX1_tried_7 ++ dktX1_tried_8
def dkwX1_tried_6 : List UInt8 := [3, 182, 0, 104, 42, 19, 1, 177, 182, 0, 111, 153, 0, 32, 42, 43, 180, 1, 181, 182, 0, 144, 7]
abbrev dktX1_tried_6 : List UInt8 := dkwX1_tried_6 ++ dktX1_tried_7
def dkwX1_tried_5 : List UInt8 := [42, 19, 1, 177, 182, 0, 111, 154, 0, 13, 42, 19, 1, 179, 182, 0, 111, 153, 0, 7, 4, 167, 0, 4]
abbrev dktX1_tried_5 : List UInt8 := dkwX1_tried_5 ++ dktX1_tried_6
def dkwX1_tried_4 : List UInt8 := [43, 181, 1, 159, 43, 42, 45, 182, 0, 242, 181, 1, 173, 42, 43, 180, 1, 167, 182, 1, 174, 153, 0, 23]
abbrev dktX1_tried_4 : List UInt8 := dkwX1_tried_4 ++ dktX1_tried_5
def dkwX1_tried_3 : List UInt8 := [180, 0, 56, 16, 44, 159, 255, 199, 42, 16, 41, 182, 0, 183, 187, 0, 237, 89, 44, 183, 0, 239, 78, 45]
abbrev dktX1_tried_3 : List UInt8 := dkwX1_tried_3 ++ dktX1_tried_4
def dkwX1_tried_2 : List UInt8 := [182, 0, 174, 182, 0, 211, 87, 43, 180, 1, 170, 42, 180, 0, 119, 184, 1, 146, 182, 0, 211, 87, 42]
abbrev dktX1_tried_2 : List UInt8 := dkwX1_tried_2 ++ dktX1_tried_3
def dkwX1_tried_1 : List UInt8 := [180, 1, 167, 182, 0, 144, 7, 162, 0, 7, 4, 167, 0, 4, 3, 182, 0, 104, 43, 180, 1, 167, 42]
abbrev dktX1_tried_1 : List UInt8 := dkwX1_tried_1 ++ dktX1_tried_2
def dkwX1_tried_0 : List UInt8 := [42, 180, 0, 28, 43, 182, 0, 211, 87, 42, 180, 0, 56, 16, 40, 160, 0, 69, 42, 182, 0, 108, 42, 43]
abbrev dktX1_tried_0 : List UInt8 := dkwX1_tried_0 ++ dktX1_tried_1
theorem dksX1_tried_0 : cX1_tried.data.toList.drop 0 = dktX1_tried_0 := by decide +kernel
theorem dksX1_tried_1 : cX1_tried.data.toList.drop 24 = dktX1_tried_1 := dk_seg dksX1_tried_0 24 rfl rfl
theorem dksX1_tried_2 : cX1_tried.data.toList.drop 47 = dktX1_tried_2 := dk_seg dksX1_tried_1 23 rfl rfl
theorem dksX1_tried_3 : cX1_tried.data.toList.drop 70 = dktX1_tried_3 := dk_seg dksX1_tried_2 23 rfl rfl
theorem dksX1_tried_4 : cX1_tried.data.toList.drop 94 = dktX1_tried_4 := dk_seg dksX1_tried_3 24 rfl rfl
theorem dksX1_tried_5 : cX1_tried.data.toList.drop 118 = dktX1_tried_5 := dk_seg dksX1_tried_4 24 rfl rfl
theorem dksX1_tried_6 : cX1_tried.data.toList.drop 142 = dktX1_tried_6 := dk_seg dksX1_tried_5 24 rfl rfl
theorem dksX1_tried_7 : cX1_tried.data.toList.drop 165 = dktX1_tried_7 := dk_seg dksX1_tried_6 23 rfl rfl
theorem dksX1_tried_8 : cX1_tried.data.toList.drop 189 = dktX1_tried_8 := dk_seg dksX1_tried_7 24 rfl rfl
theorem dksX1_tried_9 : cX1_tried.data.toList.drop 212 = dktX1_tried_9 := dk_seg dksX1_tried_8 23 rfl rfl
theorem dX1_tried_0 : decode cX1_tried 0 = .ok (.aload_n 0, 1) := dk_42 (dk_at dksX1_tried_0 0 rfl rfl)
theorem dX1_tried_1 : decode cX1_tried 1 = .ok (.getfield 28, 3) := dk_180 0 28 (dk_at dksX1_tried_0 1 rfl rfl)
theorem dX1_tried_4 : decode cX1_tried 4 = .ok (.aload_n 1, 1) := dk_43 (dk_at dksX1_tried_0 4 rfl rfl)
theorem dX1_tried_5 : decode cX1_tried 5 = .ok (.invokevirtual 211, 3) := dk_182 0 211 (dk_at dksX1_tried_0 5 rfl rfl)
theorem dX1_tried_8 : decode cX1_tried 8 = .ok (.pop, 1) := dk_87 (dk_at dksX1_tried_0 8 rfl rfl)
theorem dX1_tried_9 : decode cX1_tried 9 = .ok (.aload_n 0, 1) := dk_42 (dk_at dksX1_tried_0 9 rfl rfl)
theorem dX1_tried_10 : decode cX1_tried 10 = .ok (.getfield 56, 3) := dk_180 0 56 (dk_at dksX1_tried_0 10 rfl rfl)
theorem dX1_tried_13 : decode cX1_tried 13 = .ok (.bipush 40, 2) := dk_16 40 (dk_at dksX1_tried_0 13 rfl rfl)
theorem dX1_tried_15 : decode cX1_tried 15 = .ok (.if_icmp .ne 69, 3) := dk_160 0 69 (dk_at dksX1_tried_0 15 rfl rfl)
theorem dX1_tried_18 : decode cX1_tried 18 = .ok (.aload_n 0, 1) := dk_42 (dk_at dksX1_tried_0 18 rfl rfl)
theorem dX1_tried_19 : decode cX1_tried 19 = .ok (.invokevirtual 108, 3) := dk_182 0 108 (dk_at dksX1_tried_0 19 rfl rfl)
theorem dX1_tried_22 : decode cX1_tried 22 = .ok (.aload_n 0, 1) := dk_42 (dk_at dksX1_tried_0 22 rfl rfl)
theorem dX1_tried_23 : decode cX1_tried 23 = .ok (.aload_n 1, 1) := dk_43 (dk_at dksX1_tried_0 23 rfl rfl)
theorem dX1_tried_24 : decode cX1_tried 24 = .ok (.getfield 423, 3) := dk_180 1 167 (dk_at dksX1_tried_1 0 rfl rfl)
theorem dX1_tried_27 : decode cX1_tried 27 = .ok (.invokevirtual 144, 3) := dk_182 0 144 (dk_at dksX1_tried_1 3 rfl rfl)
theorem dX1_tried_30 : decode cX1_tried 30 = .ok (.iconst 4, 1) := dk_7 (dk_at dksX1_tried_1 6 rfl rfl)
theorem dX1_tried_31 : decode cX1_tried 31 = .ok (.if_icmp .ge 7, 3) := dk_162 0 7 (dk_at dksX1_tried_1 7 rfl rfl)
theorem dX1_tried_34 : decode cX1_tried 34 = .ok (.iconst 1, 1) := dk_4 (dk_at dksX1_tried_1 10 rfl rfl)
theorem dX1_tried_35 : decode cX1_tried 35 = .ok (.goto 4, 3) := dk_167 0 4 (dk_at dksX1_tried_1 11 rfl rfl)
theorem dX1_tried_38 : decode cX1_tried 38 = .ok (.iconst 0, 1) := dk_3 (dk_at dksX1_tried_1 14 rfl rfl)
theorem dX1_tried_39 : decode cX1_tried 39 = .ok (.invokevirtual 104, 3) := dk_182 0 104 (dk_at dksX1_tried_1 15 rfl rfl)
theorem dX1_tried_42 : decode cX1_tried 42 = .ok (.aload_n 1, 1) := dk_43 (dk_at dksX1_tried_1 18 rfl rfl)
theorem dX1_tried_43 : decode cX1_tried 43 = .ok (.getfield 423, 3) := dk_180 1 167 (dk_at dksX1_tried_1 19 rfl rfl)
theorem dX1_tried_46 : decode cX1_tried 46 = .ok (.aload_n 0, 1) := dk_42 (dk_at dksX1_tried_1 22 rfl rfl)
theorem dX1_tried_47 : decode cX1_tried 47 = .ok (.invokevirtual 174, 3) := dk_182 0 174 (dk_at dksX1_tried_2 0 rfl rfl)
theorem dX1_tried_50 : decode cX1_tried 50 = .ok (.invokevirtual 211, 3) := dk_182 0 211 (dk_at dksX1_tried_2 3 rfl rfl)
theorem dX1_tried_53 : decode cX1_tried 53 = .ok (.pop, 1) := dk_87 (dk_at dksX1_tried_2 6 rfl rfl)
theorem dX1_tried_54 : decode cX1_tried 54 = .ok (.aload_n 1, 1) := dk_43 (dk_at dksX1_tried_2 7 rfl rfl)
theorem dX1_tried_55 : decode cX1_tried 55 = .ok (.getfield 426, 3) := dk_180 1 170 (dk_at dksX1_tried_2 8 rfl rfl)
theorem dX1_tried_58 : decode cX1_tried 58 = .ok (.aload_n 0, 1) := dk_42 (dk_at dksX1_tried_2 11 rfl rfl)
theorem dX1_tried_59 : decode cX1_tried 59 = .ok (.getfield 119, 3) := dk_180 0 119 (dk_at dksX1_tried_2 12 rfl rfl)
theorem dX1_tried_62 : decode cX1_tried 62 = .ok (.invokestatic 402, 3) := dk_184 1 146 (dk_at dksX1_tried_2 15 rfl rfl)
theorem dX1_tried_65 : decode cX1_tried 65 = .ok (.invokevirtual 211, 3) := dk_182 0 211 (dk_at dksX1_tried_2 18 rfl rfl)
theorem dX1_tried_68 : decode cX1_tried 68 = .ok (.pop, 1) := dk_87 (dk_at dksX1_tried_2 21 rfl rfl)
theorem dX1_tried_69 : decode cX1_tried 69 = .ok (.aload_n 0, 1) := dk_42 (dk_at dksX1_tried_2 22 rfl rfl)
theorem dX1_tried_70 : decode cX1_tried 70 = .ok (.getfield 56, 3) := dk_180 0 56 (dk_at dksX1_tried_3 0 rfl rfl)
theorem dX1_tried_73 : decode cX1_tried 73 = .ok (.bipush 44, 2) := dk_16 44 (dk_at dksX1_tried_3 3 rfl rfl)
theorem dX1_tried_75 : decode cX1_tried 75 = .ok (.if_icmp .eq (-57), 3) := dk_159 255 199 (dk_at dksX1_tried_3 5 rfl rfl)
theorem dX1_tried_78 : decode cX1_tried 78 = .ok (.aload_n 0, 1) := dk_42 (dk_at dksX1_tried_3 8 rfl rfl)
theorem dX1_tried_79 : decode cX1_tried 79 = .ok (.bipush 41, 2) := dk_16 41 (dk_at dksX1_tried_3 9 rfl rfl)
theorem dX1_tried_81 : decode cX1_tried 81 = .ok (.invokevirtual 183, 3) := dk_182 0 183 (dk_at dksX1_tried_3 11 rfl rfl)
theorem dX1_tried_84 : decode cX1_tried 84 = .ok (.new 237, 3) := dk_187 0 237 (dk_at dksX1_tried_3 14 rfl rfl)
theorem dX1_tried_87 : decode cX1_tried 87 = .ok (.dup, 1) := dk_89 (dk_at dksX1_tried_3 17 rfl rfl)
theorem dX1_tried_88 : decode cX1_tried 88 = .ok (.aload_n 2, 1) := dk_44 (dk_at dksX1_tried_3 18 rfl rfl)
theorem dX1_tried_89 : decode cX1_tried 89 = .ok (.invokespecial 239, 3) := dk_183 0 239 (dk_at dksX1_tried_3 19 rfl rfl)
theorem dX1_tried_92 : decode cX1_tried 92 = .ok (.astore_n 3, 1) := dk_78 (dk_at dksX1_tried_3 22 rfl rfl)
theorem dX1_tried_93 : decode cX1_tried 93 = .ok (.aload_n 3, 1) := dk_45 (dk_at dksX1_tried_3 23 rfl rfl)
theorem dX1_tried_94 : decode cX1_tried 94 = .ok (.aload_n 1, 1) := dk_43 (dk_at dksX1_tried_4 0 rfl rfl)
theorem dX1_tried_95 : decode cX1_tried 95 = .ok (.putfield 415, 3) := dk_181 1 159 (dk_at dksX1_tried_4 1 rfl rfl)
theorem dX1_tried_98 : decode cX1_tried 98 = .ok (.aload_n 1, 1) := dk_43 (dk_at dksX1_tried_4 4 rfl rfl)
theorem dX1_tried_99 : decode cX1_tried 99 = .ok (.aload_n 0, 1) := dk_42 (dk_at dksX1_tried_4 5 rfl rfl)
theorem dX1_tried_100 : decode cX1_tried 100 = .ok (.aload_n 3, 1) := dk_45 (dk_at dksX1_tried_4 6 rfl rfl)
theorem dX1_tried_101 : decode cX1_tried 101 = .ok (.invokevirtual 242, 3) := dk_182 0 242 (dk_at dksX1_tried_4 7 rfl rfl)
theorem dX1_tried_104 : decode cX1_tried 104 = .ok (.putfield 429, 3) := dk_181 1 173 (dk_at dksX1_tried_4 10 rfl rfl)
theorem dX1_tried_107 : decode cX1_tried 107 = .ok (.aload_n 0, 1) := dk_42 (dk_at dksX1_tried_4 13 rfl rfl)
theorem dX1_tried_108 : decode cX1_tried 108 = .ok (.aload_n 1, 1) := dk_43 (dk_at dksX1_tried_4 14 rfl rfl)
theorem dX1_tried_109 : decode cX1_tried 109 = .ok (.getfield 423, 3) := dk_180 1 167 (dk_at dksX1_tried_4 15 rfl rfl)
theorem dX1_tried_112 : decode cX1_tried 112 = .ok (.invokevirtual 430, 3) := dk_182 1 174 (dk_at dksX1_tried_4 18 rfl rfl)
theorem dX1_tried_115 : decode cX1_tried 115 = .ok (.ifCond .eq 23, 3) := dk_153 0 23 (dk_at dksX1_tried_4 21 rfl rfl)
theorem dX1_tried_118 : decode cX1_tried 118 = .ok (.aload_n 0, 1) := dk_42 (dk_at dksX1_tried_5 0 rfl rfl)
theorem dX1_tried_119 : decode cX1_tried 119 = .ok (.ldc_w 433, 3) := dk_19 1 177 (dk_at dksX1_tried_5 1 rfl rfl)
theorem dX1_tried_122 : decode cX1_tried 122 = .ok (.invokevirtual 111, 3) := dk_182 0 111 (dk_at dksX1_tried_5 4 rfl rfl)
theorem dX1_tried_125 : decode cX1_tried 125 = .ok (.ifCond .ne 13, 3) := dk_154 0 13 (dk_at dksX1_tried_5 7 rfl rfl)
theorem dX1_tried_128 : decode cX1_tried 128 = .ok (.aload_n 0, 1) := dk_42 (dk_at dksX1_tried_5 10 rfl rfl)
theorem dX1_tried_129 : decode cX1_tried 129 = .ok (.ldc_w 435, 3) := dk_19 1 179 (dk_at dksX1_tried_5 11 rfl rfl)
theorem dX1_tried_132 : decode cX1_tried 132 = .ok (.invokevirtual 111, 3) := dk_182 0 111 (dk_at dksX1_tried_5 14 rfl rfl)
theorem dX1_tried_135 : decode cX1_tried 135 = .ok (.ifCond .eq 7, 3) := dk_153 0 7 (dk_at dksX1_tried_5 17 rfl rfl)
theorem dX1_tried_138 : decode cX1_tried 138 = .ok (.iconst 1, 1) := dk_4 (dk_at dksX1_tried_5 20 rfl rfl)
theorem dX1_tried_139 : decode cX1_tried 139 = .ok (.goto 4, 3) := dk_167 0 4 (dk_at dksX1_tried_5 21 rfl rfl)
theorem dX1_tried_142 : decode cX1_tried 142 = .ok (.iconst 0, 1) := dk_3 (dk_at dksX1_tried_6 0 rfl rfl)
theorem dX1_tried_143 : decode cX1_tried 143 = .ok (.invokevirtual 104, 3) := dk_182 0 104 (dk_at dksX1_tried_6 1 rfl rfl)
theorem dX1_tried_146 : decode cX1_tried 146 = .ok (.aload_n 0, 1) := dk_42 (dk_at dksX1_tried_6 4 rfl rfl)
theorem dX1_tried_147 : decode cX1_tried 147 = .ok (.ldc_w 433, 3) := dk_19 1 177 (dk_at dksX1_tried_6 5 rfl rfl)
theorem dX1_tried_150 : decode cX1_tried 150 = .ok (.invokevirtual 111, 3) := dk_182 0 111 (dk_at dksX1_tried_6 8 rfl rfl)
theorem dX1_tried_153 : decode cX1_tried 153 = .ok (.ifCond .eq 32, 3) := dk_153 0 32 (dk_at dksX1_tried_6 11 rfl rfl)
theorem dX1_tried_156 : decode cX1_tried 156 = .ok (.aload_n 0, 1) := dk_42 (dk_at dksX1_tried_6 14 rfl rfl)
theorem dX1_tried_157 : decode cX1_tried 157 = .ok (.aload_n 1, 1) := dk_43 (dk_at dksX1_tried_6 15 rfl rfl)
theorem dX1_tried_158 : decode cX1_tried 158 = .ok (.getfield 437, 3) := dk_180 1 181 (dk_at dksX1_tried_6 16 rfl rfl)
theorem dX1_tried_161 : decode cX1_tried 161 = .ok (.invokevirtual 144, 3) := dk_182 0 144 (dk_at dksX1_tried_6 19 rfl rfl)
theorem dX1_tried_164 : decode cX1_tried 164 = .ok (.iconst 4, 1) := dk_7 (dk_at dksX1_tried_6 22 rfl rfl)
theorem dX1_tried_165 : decode cX1_tried 165 = .ok (.if_icmp .ge 7, 3) := dk_162 0 7 (dk_at dksX1_tried_7 0 rfl rfl)
theorem dX1_tried_168 : decode cX1_tried 168 = .ok (.iconst 1, 1) := dk_4 (dk_at dksX1_tried_7 3 rfl rfl)
theorem dX1_tried_169 : decode cX1_tried 169 = .ok (.goto 4, 3) := dk_167 0 4 (dk_at dksX1_tried_7 4 rfl rfl)
theorem dX1_tried_172 : decode cX1_tried 172 = .ok (.iconst 0, 1) := dk_3 (dk_at dksX1_tried_7 7 rfl rfl)
theorem dX1_tried_173 : decode cX1_tried 173 = .ok (.invokevirtual 104, 3) := dk_182 0 104 (dk_at dksX1_tried_7 8 rfl rfl)
theorem dX1_tried_176 : decode cX1_tried 176 = .ok (.aload_n 0, 1) := dk_42 (dk_at dksX1_tried_7 11 rfl rfl)
theorem dX1_tried_177 : decode cX1_tried 177 = .ok (.aload_n 1, 1) := dk_43 (dk_at dksX1_tried_7 12 rfl rfl)
theorem dX1_tried_178 : decode cX1_tried 178 = .ok (.aload_n 3, 1) := dk_45 (dk_at dksX1_tried_7 13 rfl rfl)
theorem dX1_tried_179 : decode cX1_tried 179 = .ok (.invokevirtual 440, 3) := dk_182 1 184 (dk_at dksX1_tried_7 14 rfl rfl)
theorem dX1_tried_182 : decode cX1_tried 182 = .ok (.goto (-36), 3) := dk_167 255 220 (dk_at dksX1_tried_7 17 rfl rfl)
theorem dX1_tried_185 : decode cX1_tried 185 = .ok (.aload_n 0, 1) := dk_42 (dk_at dksX1_tried_7 20 rfl rfl)
theorem dX1_tried_186 : decode cX1_tried 186 = .ok (.ldc_w 435, 3) := dk_19 1 179 (dk_at dksX1_tried_7 21 rfl rfl)
theorem dX1_tried_189 : decode cX1_tried 189 = .ok (.invokevirtual 111, 3) := dk_182 0 111 (dk_at dksX1_tried_8 0 rfl rfl)
theorem dX1_tried_192 : decode cX1_tried 192 = .ok (.ifCond .eq 23, 3) := dk_153 0 23 (dk_at dksX1_tried_8 3 rfl rfl)
theorem dX1_tried_195 : decode cX1_tried 195 = .ok (.aload_n 0, 1) := dk_42 (dk_at dksX1_tried_8 6 rfl rfl)
theorem dX1_tried_196 : decode cX1_tried 196 = .ok (.invokevirtual 108, 3) := dk_182 0 108 (dk_at dksX1_tried_8 7 rfl rfl)
theorem dX1_tried_199 : decode cX1_tried 199 = .ok (.aload_n 1, 1) := dk_43 (dk_at dksX1_tried_8 10 rfl rfl)
theorem dX1_tried_200 : decode cX1_tried 200 = .ok (.aload_n 0, 1) := dk_42 (dk_at dksX1_tried_8 11 rfl rfl)
theorem dX1_tried_201 : decode cX1_tried 201 = .ok (.new 237, 3) := dk_187 0 237 (dk_at dksX1_tried_8 12 rfl rfl)
theorem dX1_tried_204 : decode cX1_tried 204 = .ok (.dup, 1) := dk_89 (dk_at dksX1_tried_8 15 rfl rfl)
theorem dX1_tried_205 : decode cX1_tried 205 = .ok (.aload_n 2, 1) := dk_44 (dk_at dksX1_tried_8 16 rfl rfl)
theorem dX1_tried_206 : decode cX1_tried 206 = .ok (.invokespecial 239, 3) := dk_183 0 239 (dk_at dksX1_tried_8 17 rfl rfl)
theorem dX1_tried_209 : decode cX1_tried 209 = .ok (.invokevirtual 242, 3) := dk_182 0 242 (dk_at dksX1_tried_8 20 rfl rfl)
theorem dX1_tried_212 : decode cX1_tried 212 = .ok (.putfield 443, 3) := dk_181 1 187 (dk_at dksX1_tried_9 0 rfl rfl)
theorem dX1_tried_215 : decode cX1_tried 215 = .ok (.return_, 1) := dk_177 (dk_at dksX1_tried_9 3 rfl rfl)
abbrev cX1_caught : ByteArray := prog_15_method_25_code
def yX1_caught : MethodName := ⟨RX1, "caught", "(LThrowRules$Try;LThrowRules$Around;)V"⟩
def dkwX1_caught_8 : List UInt8 := [25, 5, 45, 181, 1, 124, 45, 42, 25, 5, 182, 0, 242, 181, 1, 193, 177]
abbrev dktX1_caught_8 : List UInt8 := dkwX1_caught_8 ++ []
def dkwX1_caught_7 : List UInt8 := [42, 180, 0, 119, 2, 182, 0, 167, 42, 16, 41, 182, 0, 183, 187, 0, 237, 89, 44, 183, 0, 239, 58, 5]
abbrev dktX1_caught_7 : List UInt8 := dkwX1_caught_7 ++ dktX1_caught_8
def dkwX1_caught_6 : List UInt8 := [181, 1, 125, 42, 45, 180, 1, 125, 44, 182, 1, 136, 42, 180, 1, 117, 198, 0, 16, 42, 180, 0, 131, 5]
abbrev dktX1_caught_6 : List UInt8 := dkwX1_caught_6 ++ dktX1_caught_7
def dkwX1_caught_5 : List UInt8 := [182, 0, 185, 42, 180, 0, 119, 183, 0, 255, 182, 0, 211, 87, 167, 255, 188, 45, 42, 182, 0, 174]
abbrev dktX1_caught_5 : List UInt8 := dkwX1_caught_5 ++ dktX1_caught_6
def dkwX1_caught_4 : List UInt8 := [182, 0, 104, 42, 182, 0, 174, 58, 4, 45, 180, 1, 144, 187, 0, 253, 89, 42, 25, 4, 42, 180, 0, 119]
abbrev dktX1_caught_4 : List UInt8 := dkwX1_caught_4 ++ dktX1_caught_5
def dkwX1_caught_3 : List UInt8 := [160, 0, 65, 42, 182, 0, 108, 42, 45, 180, 1, 144, 182, 0, 144, 7, 162, 0, 7, 4, 167, 0, 4, 3]
abbrev dktX1_caught_3 : List UInt8 := dkwX1_caught_3 ++ dktX1_caught_4
def dkwX1_caught_2 : List UInt8 := [180, 0, 119, 182, 0, 185, 42, 180, 0, 119, 183, 0, 255, 182, 0, 211, 87, 42, 180, 0, 56, 16, 124]
abbrev dktX1_caught_2 : List UInt8 := dkwX1_caught_2 ++ dktX1_caught_3
def dkwX1_caught_1 : List UInt8 := [16, 40, 182, 0, 183, 42, 182, 0, 174, 58, 4, 45, 180, 1, 144, 187, 0, 253, 89, 42, 25, 4, 42]
abbrev dktX1_caught_1 : List UInt8 := dkwX1_caught_1 ++ dktX1_caught_2
def dkwX1_caught_0 : List UInt8 := [187, 1, 126, 89, 43, 183, 1, 190, 78, 43, 180, 1, 181, 45, 182, 0, 211, 87, 42, 182, 0, 108, 42]
abbrev dktX1_caught_0 : List UInt8 := dkwX1_caught_0 ++ dktX1_caught_1
theorem dksX1_caught_0 : cX1_caught.data.toList.drop 0 = dktX1_caught_0 := by decide +kernel
theorem dksX1_caught_1 : cX1_caught.data.toList.drop 23 = dktX1_caught_1 := dk_seg dksX1_caught_0 23 rfl rfl
theorem dksX1_caught_2 : cX1_caught.data.toList.drop 46 = dktX1_caught_2 := dk_seg dksX1_caught_1 23 rfl rfl
theorem dksX1_caught_3 : cX1_caught.data.toList.drop 69 = dktX1_caught_3 := dk_seg dksX1_caught_2 23 rfl rfl
theorem dksX1_caught_4 : cX1_caught.data.toList.drop 93 = dktX1_caught_4 := dk_seg dksX1_caught_3 24 rfl rfl
theorem dksX1_caught_5 : cX1_caught.data.toList.drop 117 = dktX1_caught_5 := dk_seg dksX1_caught_4 24 rfl rfl
theorem dksX1_caught_6 : cX1_caught.data.toList.drop 139 = dktX1_caught_6 := dk_seg dksX1_caught_5 22 rfl rfl
theorem dksX1_caught_7 : cX1_caught.data.toList.drop 163 = dktX1_caught_7 := dk_seg dksX1_caught_6 24 rfl rfl
theorem dksX1_caught_8 : cX1_caught.data.toList.drop 187 = dktX1_caught_8 := dk_seg dksX1_caught_7 24 rfl rfl
theorem dX1_caught_0 : decode cX1_caught 0 = .ok (.new 382, 3) := dk_187 1 126 (dk_at dksX1_caught_0 0 rfl rfl)
theorem dX1_caught_3 : decode cX1_caught 3 = .ok (.dup, 1) := dk_89 (dk_at dksX1_caught_0 3 rfl rfl)
theorem dX1_caught_4 : decode cX1_caught 4 = .ok (.aload_n 1, 1) := dk_43 (dk_at dksX1_caught_0 4 rfl rfl)
theorem dX1_caught_5 : decode cX1_caught 5 = .ok (.invokespecial 446, 3) := dk_183 1 190 (dk_at dksX1_caught_0 5 rfl rfl)
theorem dX1_caught_8 : decode cX1_caught 8 = .ok (.astore_n 3, 1) := dk_78 (dk_at dksX1_caught_0 8 rfl rfl)
theorem dX1_caught_9 : decode cX1_caught 9 = .ok (.aload_n 1, 1) := dk_43 (dk_at dksX1_caught_0 9 rfl rfl)
theorem dX1_caught_10 : decode cX1_caught 10 = .ok (.getfield 437, 3) := dk_180 1 181 (dk_at dksX1_caught_0 10 rfl rfl)
theorem dX1_caught_13 : decode cX1_caught 13 = .ok (.aload_n 3, 1) := dk_45 (dk_at dksX1_caught_0 13 rfl rfl)
theorem dX1_caught_14 : decode cX1_caught 14 = .ok (.invokevirtual 211, 3) := dk_182 0 211 (dk_at dksX1_caught_0 14 rfl rfl)
theorem dX1_caught_17 : decode cX1_caught 17 = .ok (.pop, 1) := dk_87 (dk_at dksX1_caught_0 17 rfl rfl)
theorem dX1_caught_18 : decode cX1_caught 18 = .ok (.aload_n 0, 1) := dk_42 (dk_at dksX1_caught_0 18 rfl rfl)
theorem dX1_caught_19 : decode cX1_caught 19 = .ok (.invokevirtual 108, 3) := dk_182 0 108 (dk_at dksX1_caught_0 19 rfl rfl)
theorem dX1_caught_22 : decode cX1_caught 22 = .ok (.aload_n 0, 1) := dk_42 (dk_at dksX1_caught_0 22 rfl rfl)
theorem dX1_caught_23 : decode cX1_caught 23 = .ok (.bipush 40, 2) := dk_16 40 (dk_at dksX1_caught_1 0 rfl rfl)
theorem dX1_caught_25 : decode cX1_caught 25 = .ok (.invokevirtual 183, 3) := dk_182 0 183 (dk_at dksX1_caught_1 2 rfl rfl)
theorem dX1_caught_28 : decode cX1_caught 28 = .ok (.aload_n 0, 1) := dk_42 (dk_at dksX1_caught_1 5 rfl rfl)
theorem dX1_caught_29 : decode cX1_caught 29 = .ok (.invokevirtual 174, 3) := dk_182 0 174 (dk_at dksX1_caught_1 6 rfl rfl)
theorem dX1_caught_32 : decode cX1_caught 32 = .ok (.astore 4, 2) := dk_58 4 (dk_at dksX1_caught_1 9 rfl rfl)
theorem dX1_caught_34 : decode cX1_caught 34 = .ok (.aload_n 3, 1) := dk_45 (dk_at dksX1_caught_1 11 rfl rfl)
theorem dX1_caught_35 : decode cX1_caught 35 = .ok (.getfield 400, 3) := dk_180 1 144 (dk_at dksX1_caught_1 12 rfl rfl)
theorem dX1_caught_38 : decode cX1_caught 38 = .ok (.new 253, 3) := dk_187 0 253 (dk_at dksX1_caught_1 15 rfl rfl)
theorem dX1_caught_41 : decode cX1_caught 41 = .ok (.dup, 1) := dk_89 (dk_at dksX1_caught_1 18 rfl rfl)
theorem dX1_caught_42 : decode cX1_caught 42 = .ok (.aload_n 0, 1) := dk_42 (dk_at dksX1_caught_1 19 rfl rfl)
theorem dX1_caught_43 : decode cX1_caught 43 = .ok (.aload 4, 2) := dk_25 4 (dk_at dksX1_caught_1 20 rfl rfl)
theorem dX1_caught_45 : decode cX1_caught 45 = .ok (.aload_n 0, 1) := dk_42 (dk_at dksX1_caught_1 22 rfl rfl)
theorem dX1_caught_46 : decode cX1_caught 46 = .ok (.getfield 119, 3) := dk_180 0 119 (dk_at dksX1_caught_2 0 rfl rfl)
theorem dX1_caught_49 : decode cX1_caught 49 = .ok (.invokevirtual 185, 3) := dk_182 0 185 (dk_at dksX1_caught_2 3 rfl rfl)
theorem dX1_caught_52 : decode cX1_caught 52 = .ok (.aload_n 0, 1) := dk_42 (dk_at dksX1_caught_2 6 rfl rfl)
theorem dX1_caught_53 : decode cX1_caught 53 = .ok (.getfield 119, 3) := dk_180 0 119 (dk_at dksX1_caught_2 7 rfl rfl)
theorem dX1_caught_56 : decode cX1_caught 56 = .ok (.invokespecial 255, 3) := dk_183 0 255 (dk_at dksX1_caught_2 10 rfl rfl)
theorem dX1_caught_59 : decode cX1_caught 59 = .ok (.invokevirtual 211, 3) := dk_182 0 211 (dk_at dksX1_caught_2 13 rfl rfl)
theorem dX1_caught_62 : decode cX1_caught 62 = .ok (.pop, 1) := dk_87 (dk_at dksX1_caught_2 16 rfl rfl)
theorem dX1_caught_63 : decode cX1_caught 63 = .ok (.aload_n 0, 1) := dk_42 (dk_at dksX1_caught_2 17 rfl rfl)
theorem dX1_caught_64 : decode cX1_caught 64 = .ok (.getfield 56, 3) := dk_180 0 56 (dk_at dksX1_caught_2 18 rfl rfl)
theorem dX1_caught_67 : decode cX1_caught 67 = .ok (.bipush 124, 2) := dk_16 124 (dk_at dksX1_caught_2 21 rfl rfl)
theorem dX1_caught_69 : decode cX1_caught 69 = .ok (.if_icmp .ne 65, 3) := dk_160 0 65 (dk_at dksX1_caught_3 0 rfl rfl)
theorem dX1_caught_72 : decode cX1_caught 72 = .ok (.aload_n 0, 1) := dk_42 (dk_at dksX1_caught_3 3 rfl rfl)
theorem dX1_caught_73 : decode cX1_caught 73 = .ok (.invokevirtual 108, 3) := dk_182 0 108 (dk_at dksX1_caught_3 4 rfl rfl)
theorem dX1_caught_76 : decode cX1_caught 76 = .ok (.aload_n 0, 1) := dk_42 (dk_at dksX1_caught_3 7 rfl rfl)
theorem dX1_caught_77 : decode cX1_caught 77 = .ok (.aload_n 3, 1) := dk_45 (dk_at dksX1_caught_3 8 rfl rfl)
theorem dX1_caught_78 : decode cX1_caught 78 = .ok (.getfield 400, 3) := dk_180 1 144 (dk_at dksX1_caught_3 9 rfl rfl)
theorem dX1_caught_81 : decode cX1_caught 81 = .ok (.invokevirtual 144, 3) := dk_182 0 144 (dk_at dksX1_caught_3 12 rfl rfl)
theorem dX1_caught_84 : decode cX1_caught 84 = .ok (.iconst 4, 1) := dk_7 (dk_at dksX1_caught_3 15 rfl rfl)
theorem dX1_caught_85 : decode cX1_caught 85 = .ok (.if_icmp .ge 7, 3) := dk_162 0 7 (dk_at dksX1_caught_3 16 rfl rfl)
theorem dX1_caught_88 : decode cX1_caught 88 = .ok (.iconst 1, 1) := dk_4 (dk_at dksX1_caught_3 19 rfl rfl)
theorem dX1_caught_89 : decode cX1_caught 89 = .ok (.goto 4, 3) := dk_167 0 4 (dk_at dksX1_caught_3 20 rfl rfl)
theorem dX1_caught_92 : decode cX1_caught 92 = .ok (.iconst 0, 1) := dk_3 (dk_at dksX1_caught_3 23 rfl rfl)
theorem dX1_caught_93 : decode cX1_caught 93 = .ok (.invokevirtual 104, 3) := dk_182 0 104 (dk_at dksX1_caught_4 0 rfl rfl)
theorem dX1_caught_96 : decode cX1_caught 96 = .ok (.aload_n 0, 1) := dk_42 (dk_at dksX1_caught_4 3 rfl rfl)
theorem dX1_caught_97 : decode cX1_caught 97 = .ok (.invokevirtual 174, 3) := dk_182 0 174 (dk_at dksX1_caught_4 4 rfl rfl)
theorem dX1_caught_100 : decode cX1_caught 100 = .ok (.astore 4, 2) := dk_58 4 (dk_at dksX1_caught_4 7 rfl rfl)
theorem dX1_caught_102 : decode cX1_caught 102 = .ok (.aload_n 3, 1) := dk_45 (dk_at dksX1_caught_4 9 rfl rfl)
theorem dX1_caught_103 : decode cX1_caught 103 = .ok (.getfield 400, 3) := dk_180 1 144 (dk_at dksX1_caught_4 10 rfl rfl)
theorem dX1_caught_106 : decode cX1_caught 106 = .ok (.new 253, 3) := dk_187 0 253 (dk_at dksX1_caught_4 13 rfl rfl)
theorem dX1_caught_109 : decode cX1_caught 109 = .ok (.dup, 1) := dk_89 (dk_at dksX1_caught_4 16 rfl rfl)
theorem dX1_caught_110 : decode cX1_caught 110 = .ok (.aload_n 0, 1) := dk_42 (dk_at dksX1_caught_4 17 rfl rfl)
theorem dX1_caught_111 : decode cX1_caught 111 = .ok (.aload 4, 2) := dk_25 4 (dk_at dksX1_caught_4 18 rfl rfl)
theorem dX1_caught_113 : decode cX1_caught 113 = .ok (.aload_n 0, 1) := dk_42 (dk_at dksX1_caught_4 20 rfl rfl)
theorem dX1_caught_114 : decode cX1_caught 114 = .ok (.getfield 119, 3) := dk_180 0 119 (dk_at dksX1_caught_4 21 rfl rfl)
theorem dX1_caught_117 : decode cX1_caught 117 = .ok (.invokevirtual 185, 3) := dk_182 0 185 (dk_at dksX1_caught_5 0 rfl rfl)
theorem dX1_caught_120 : decode cX1_caught 120 = .ok (.aload_n 0, 1) := dk_42 (dk_at dksX1_caught_5 3 rfl rfl)
theorem dX1_caught_121 : decode cX1_caught 121 = .ok (.getfield 119, 3) := dk_180 0 119 (dk_at dksX1_caught_5 4 rfl rfl)
theorem dX1_caught_124 : decode cX1_caught 124 = .ok (.invokespecial 255, 3) := dk_183 0 255 (dk_at dksX1_caught_5 7 rfl rfl)
theorem dX1_caught_127 : decode cX1_caught 127 = .ok (.invokevirtual 211, 3) := dk_182 0 211 (dk_at dksX1_caught_5 10 rfl rfl)
theorem dX1_caught_130 : decode cX1_caught 130 = .ok (.pop, 1) := dk_87 (dk_at dksX1_caught_5 13 rfl rfl)
theorem dX1_caught_131 : decode cX1_caught 131 = .ok (.goto (-68), 3) := dk_167 255 188 (dk_at dksX1_caught_5 14 rfl rfl)
theorem dX1_caught_134 : decode cX1_caught 134 = .ok (.aload_n 3, 1) := dk_45 (dk_at dksX1_caught_5 17 rfl rfl)
theorem dX1_caught_135 : decode cX1_caught 135 = .ok (.aload_n 0, 1) := dk_42 (dk_at dksX1_caught_5 18 rfl rfl)
theorem dX1_caught_136 : decode cX1_caught 136 = .ok (.invokevirtual 174, 3) := dk_182 0 174 (dk_at dksX1_caught_5 19 rfl rfl)
theorem dX1_caught_139 : decode cX1_caught 139 = .ok (.putfield 381, 3) := dk_181 1 125 (dk_at dksX1_caught_6 0 rfl rfl)
theorem dX1_caught_142 : decode cX1_caught 142 = .ok (.aload_n 0, 1) := dk_42 (dk_at dksX1_caught_6 3 rfl rfl)
theorem dX1_caught_143 : decode cX1_caught 143 = .ok (.aload_n 3, 1) := dk_45 (dk_at dksX1_caught_6 4 rfl rfl)
theorem dX1_caught_144 : decode cX1_caught 144 = .ok (.getfield 381, 3) := dk_180 1 125 (dk_at dksX1_caught_6 5 rfl rfl)
theorem dX1_caught_147 : decode cX1_caught 147 = .ok (.aload_n 2, 1) := dk_44 (dk_at dksX1_caught_6 8 rfl rfl)
theorem dX1_caught_148 : decode cX1_caught 148 = .ok (.invokevirtual 392, 3) := dk_182 1 136 (dk_at dksX1_caught_6 9 rfl rfl)
theorem dX1_caught_151 : decode cX1_caught 151 = .ok (.aload_n 0, 1) := dk_42 (dk_at dksX1_caught_6 12 rfl rfl)
theorem dX1_caught_152 : decode cX1_caught 152 = .ok (.getfield 373, 3) := dk_180 1 117 (dk_at dksX1_caught_6 13 rfl rfl)
theorem dX1_caught_155 : decode cX1_caught 155 = .ok (.ifnull 16, 3) := dk_198 0 16 (dk_at dksX1_caught_6 16 rfl rfl)
theorem dX1_caught_158 : decode cX1_caught 158 = .ok (.aload_n 0, 1) := dk_42 (dk_at dksX1_caught_6 19 rfl rfl)
theorem dX1_caught_159 : decode cX1_caught 159 = .ok (.getfield 131, 3) := dk_180 0 131 (dk_at dksX1_caught_6 20 rfl rfl)
theorem dX1_caught_162 : decode cX1_caught 162 = .ok (.iconst 2, 1) := dk_5 (dk_at dksX1_caught_6 23 rfl rfl)
theorem dX1_caught_163 : decode cX1_caught 163 = .ok (.aload_n 0, 1) := dk_42 (dk_at dksX1_caught_7 0 rfl rfl)
theorem dX1_caught_164 : decode cX1_caught 164 = .ok (.getfield 119, 3) := dk_180 0 119 (dk_at dksX1_caught_7 1 rfl rfl)
theorem dX1_caught_167 : decode cX1_caught 167 = .ok (.iconst (-1), 1) := dk_2 (dk_at dksX1_caught_7 4 rfl rfl)
theorem dX1_caught_168 : decode cX1_caught 168 = .ok (.invokevirtual 167, 3) := dk_182 0 167 (dk_at dksX1_caught_7 5 rfl rfl)
theorem dX1_caught_171 : decode cX1_caught 171 = .ok (.aload_n 0, 1) := dk_42 (dk_at dksX1_caught_7 8 rfl rfl)
theorem dX1_caught_172 : decode cX1_caught 172 = .ok (.bipush 41, 2) := dk_16 41 (dk_at dksX1_caught_7 9 rfl rfl)
theorem dX1_caught_174 : decode cX1_caught 174 = .ok (.invokevirtual 183, 3) := dk_182 0 183 (dk_at dksX1_caught_7 11 rfl rfl)
theorem dX1_caught_177 : decode cX1_caught 177 = .ok (.new 237, 3) := dk_187 0 237 (dk_at dksX1_caught_7 14 rfl rfl)
theorem dX1_caught_180 : decode cX1_caught 180 = .ok (.dup, 1) := dk_89 (dk_at dksX1_caught_7 17 rfl rfl)
theorem dX1_caught_181 : decode cX1_caught 181 = .ok (.aload_n 2, 1) := dk_44 (dk_at dksX1_caught_7 18 rfl rfl)
theorem dX1_caught_182 : decode cX1_caught 182 = .ok (.invokespecial 239, 3) := dk_183 0 239 (dk_at dksX1_caught_7 19 rfl rfl)
theorem dX1_caught_185 : decode cX1_caught 185 = .ok (.astore 5, 2) := dk_58 5 (dk_at dksX1_caught_7 22 rfl rfl)
theorem dX1_caught_187 : decode cX1_caught 187 = .ok (.aload 5, 2) := dk_25 5 (dk_at dksX1_caught_8 0 rfl rfl)
theorem dX1_caught_189 : decode cX1_caught 189 = .ok (.aload_n 3, 1) := dk_45 (dk_at dksX1_caught_8 2 rfl rfl)
theorem dX1_caught_190 : decode cX1_caught 190 = .ok (.putfield 380, 3) := dk_181 1 124 (dk_at dksX1_caught_8 3 rfl rfl)
theorem dX1_caught_193 : decode cX1_caught 193 = .ok (.aload_n 3, 1) := dk_45 (dk_at dksX1_caught_8 6 rfl rfl)
theorem dX1_caught_194 : decode cX1_caught 194 = .ok (.aload_n 0, 1) := dk_42 (dk_at dksX1_caught_8 7 rfl rfl)
theorem dX1_caught_195 : decode cX1_caught 195 = .ok (.aload 5, 2) := dk_25 5 (dk_at dksX1_caught_8 8 rfl rfl)
theorem dX1_caught_197 : decode cX1_caught 197 = .ok (.invokevirtual 242, 3) := dk_182 0 242 (dk_at dksX1_caught_8 10 rfl rfl)
theorem dX1_caught_200 : decode cX1_caught 200 = .ok (.putfield 449, 3) := dk_181 1 193 (dk_at dksX1_caught_8 13 rfl rfl)
theorem dX1_caught_203 : decode cX1_caught 203 = .ok (.return_, 1) := dk_177 (dk_at dksX1_caught_8 16 rfl rfl)
abbrev cX1_link : ByteArray := prog_15_method_26_code
def yX1_link : MethodName := ⟨RX1, "link", "()V"⟩
def dkwX1_link_12 : List UInt8 := [177]
abbrev dktX1_link_12 : List UInt8 := dkwX1_link_12 ++ []
def dkwX1_link_11 : List UInt8 := [167, 0, 15, 42, 44, 180, 0, 219, 44, 180, 0, 221, 182, 1, 197, 181, 1, 206, 132, 1, 1, 167, 255, 197]
abbrev dktX1_link_11 : List UInt8 := dkwX1_link_11 ++ dktX1_link_12
def dkwX1_link_10 : List UInt8 := [180, 0, 131, 180, 0, 141, 27, 182, 0, 192, 192, 0, 199, 77, 44, 44, 180, 0, 219, 199, 0, 7, 1]
abbrev dktX1_link_10 : List UInt8 := dkwX1_link_10 ++ dktX1_link_11
def dkwX1_link_9 : List UInt8 := [132, 1, 1, 167, 255, 198, 3, 60, 27, 42, 180, 0, 131, 180, 0, 141, 182, 0, 144, 162, 0, 51, 42]
abbrev dktX1_link_9 : List UInt8 := dkwX1_link_9 ++ dktX1_link_10
def dkwX1_link_8 : List UInt8 := [180, 0, 131, 16, 12, 42, 180, 0, 34, 27, 182, 0, 192, 192, 1, 147, 182, 1, 194, 2, 182, 0, 167]
abbrev dktX1_link_8 : List UInt8 := dkwX1_link_8 ++ dktX1_link_9
def dkwX1_link_7 : List UInt8 := [162, 0, 53, 42, 180, 0, 31, 27, 182, 0, 192, 192, 1, 44, 180, 1, 154, 180, 1, 141, 153, 0, 27, 42]
abbrev dktX1_link_7 : List UInt8 := dkwX1_link_7 ++ dktX1_link_8
def dkwX1_link_6 : List UInt8 := [132, 3, 1, 167, 255, 205, 132, 1, 1, 167, 255, 174, 3, 60, 27, 42, 180, 0, 31, 182, 0, 144]
abbrev dktX1_link_6 : List UInt8 := dkwX1_link_6 ++ dktX1_link_7
def dkwX1_link_5 : List UInt8 := [192, 0, 83, 44, 180, 1, 170, 29, 182, 0, 192, 192, 1, 147, 182, 1, 194, 182, 1, 197, 182, 0, 211, 87]
abbrev dktX1_link_5 : List UInt8 := dkwX1_link_5 ++ dktX1_link_6
def dkwX1_link_4 : List UInt8 := [44, 180, 1, 167, 182, 0, 144, 162, 0, 46, 44, 180, 1, 203, 42, 44, 180, 1, 167, 29, 182, 0, 192]
abbrev dktX1_link_4 : List UInt8 := dkwX1_link_4 ++ dktX1_link_5
def dkwX1_link_3 : List UInt8 := [180, 0, 28, 182, 0, 144, 162, 0, 77, 42, 180, 0, 28, 27, 182, 0, 192, 192, 1, 73, 77, 3, 62, 29]
abbrev dktX1_link_3 : List UInt8 := dkwX1_link_3 ++ dktX1_link_4
def dkwX1_link_2 : List UInt8 := [192, 1, 147, 182, 1, 194, 182, 1, 197, 181, 1, 200, 132, 1, 1, 167, 255, 196, 3, 60, 27, 42]
abbrev dktX1_link_2 : List UInt8 := dkwX1_link_2 ++ dktX1_link_3
def dkwX1_link_1 : List UInt8 := [42, 42, 180, 0, 21, 27, 182, 0, 192, 192, 1, 38, 180, 1, 145, 42, 180, 0, 25, 27, 182, 0, 192]
abbrev dktX1_link_1 : List UInt8 := dkwX1_link_1 ++ dktX1_link_2
def dkwX1_link_0 : List UInt8 := [3, 60, 27, 42, 180, 0, 21, 182, 0, 144, 162, 0, 55, 42, 180, 0, 21, 27, 182, 0, 192, 192, 1, 38]
abbrev dktX1_link_0 : List UInt8 := dkwX1_link_0 ++ dktX1_link_1
theorem dksX1_link_0 : cX1_link.data.toList.drop 0 = dktX1_link_0 := by decide +kernel
theorem dksX1_link_1 : cX1_link.data.toList.drop 24 = dktX1_link_1 := dk_seg dksX1_link_0 24 rfl rfl
theorem dksX1_link_2 : cX1_link.data.toList.drop 47 = dktX1_link_2 := dk_seg dksX1_link_1 23 rfl rfl
theorem dksX1_link_3 : cX1_link.data.toList.drop 69 = dktX1_link_3 := dk_seg dksX1_link_2 22 rfl rfl
theorem dksX1_link_4 : cX1_link.data.toList.drop 93 = dktX1_link_4 := dk_seg dksX1_link_3 24 rfl rfl
theorem dksX1_link_5 : cX1_link.data.toList.drop 116 = dktX1_link_5 := dk_seg dksX1_link_4 23 rfl rfl
theorem dksX1_link_6 : cX1_link.data.toList.drop 140 = dktX1_link_6 := dk_seg dksX1_link_5 24 rfl rfl
theorem dksX1_link_7 : cX1_link.data.toList.drop 162 = dktX1_link_7 := dk_seg dksX1_link_6 22 rfl rfl
theorem dksX1_link_8 : cX1_link.data.toList.drop 186 = dktX1_link_8 := dk_seg dksX1_link_7 24 rfl rfl
theorem dksX1_link_9 : cX1_link.data.toList.drop 209 = dktX1_link_9 := dk_seg dksX1_link_8 23 rfl rfl
theorem dksX1_link_10 : cX1_link.data.toList.drop 232 = dktX1_link_10 := dk_seg dksX1_link_9 23 rfl rfl
theorem dksX1_link_11 : cX1_link.data.toList.drop 255 = dktX1_link_11 := dk_seg dksX1_link_10 23 rfl rfl
theorem dksX1_link_12 : cX1_link.data.toList.drop 279 = dktX1_link_12 := dk_seg dksX1_link_11 24 rfl rfl
theorem dX1_link_0 : decode cX1_link 0 = .ok (.iconst 0, 1) := dk_3 (dk_at dksX1_link_0 0 rfl rfl)
theorem dX1_link_1 : decode cX1_link 1 = .ok (.istore_n 1, 1) := dk_60 (dk_at dksX1_link_0 1 rfl rfl)
theorem dX1_link_2 : decode cX1_link 2 = .ok (.iload_n 1, 1) := dk_27 (dk_at dksX1_link_0 2 rfl rfl)
theorem dX1_link_3 : decode cX1_link 3 = .ok (.aload_n 0, 1) := dk_42 (dk_at dksX1_link_0 3 rfl rfl)
theorem dX1_link_4 : decode cX1_link 4 = .ok (.getfield 21, 3) := dk_180 0 21 (dk_at dksX1_link_0 4 rfl rfl)
theorem dX1_link_7 : decode cX1_link 7 = .ok (.invokevirtual 144, 3) := dk_182 0 144 (dk_at dksX1_link_0 7 rfl rfl)
theorem dX1_link_10 : decode cX1_link 10 = .ok (.if_icmp .ge 55, 3) := dk_162 0 55 (dk_at dksX1_link_0 10 rfl rfl)
theorem dX1_link_13 : decode cX1_link 13 = .ok (.aload_n 0, 1) := dk_42 (dk_at dksX1_link_0 13 rfl rfl)
theorem dX1_link_14 : decode cX1_link 14 = .ok (.getfield 21, 3) := dk_180 0 21 (dk_at dksX1_link_0 14 rfl rfl)
theorem dX1_link_17 : decode cX1_link 17 = .ok (.iload_n 1, 1) := dk_27 (dk_at dksX1_link_0 17 rfl rfl)
theorem dX1_link_18 : decode cX1_link 18 = .ok (.invokevirtual 192, 3) := dk_182 0 192 (dk_at dksX1_link_0 18 rfl rfl)
theorem dX1_link_21 : decode cX1_link 21 = .ok (.checkcast 294, 3) := dk_192 1 38 (dk_at dksX1_link_0 21 rfl rfl)
theorem dX1_link_24 : decode cX1_link 24 = .ok (.aload_n 0, 1) := dk_42 (dk_at dksX1_link_1 0 rfl rfl)
theorem dX1_link_25 : decode cX1_link 25 = .ok (.aload_n 0, 1) := dk_42 (dk_at dksX1_link_1 1 rfl rfl)
theorem dX1_link_26 : decode cX1_link 26 = .ok (.getfield 21, 3) := dk_180 0 21 (dk_at dksX1_link_1 2 rfl rfl)
theorem dX1_link_29 : decode cX1_link 29 = .ok (.iload_n 1, 1) := dk_27 (dk_at dksX1_link_1 5 rfl rfl)
theorem dX1_link_30 : decode cX1_link 30 = .ok (.invokevirtual 192, 3) := dk_182 0 192 (dk_at dksX1_link_1 6 rfl rfl)
theorem dX1_link_33 : decode cX1_link 33 = .ok (.checkcast 294, 3) := dk_192 1 38 (dk_at dksX1_link_1 9 rfl rfl)
theorem dX1_link_36 : decode cX1_link 36 = .ok (.getfield 401, 3) := dk_180 1 145 (dk_at dksX1_link_1 12 rfl rfl)
theorem dX1_link_39 : decode cX1_link 39 = .ok (.aload_n 0, 1) := dk_42 (dk_at dksX1_link_1 15 rfl rfl)
theorem dX1_link_40 : decode cX1_link 40 = .ok (.getfield 25, 3) := dk_180 0 25 (dk_at dksX1_link_1 16 rfl rfl)
theorem dX1_link_43 : decode cX1_link 43 = .ok (.iload_n 1, 1) := dk_27 (dk_at dksX1_link_1 19 rfl rfl)
theorem dX1_link_44 : decode cX1_link 44 = .ok (.invokevirtual 192, 3) := dk_182 0 192 (dk_at dksX1_link_1 20 rfl rfl)
theorem dX1_link_47 : decode cX1_link 47 = .ok (.checkcast 403, 3) := dk_192 1 147 (dk_at dksX1_link_2 0 rfl rfl)
theorem dX1_link_50 : decode cX1_link 50 = .ok (.invokevirtual 450, 3) := dk_182 1 194 (dk_at dksX1_link_2 3 rfl rfl)
theorem dX1_link_53 : decode cX1_link 53 = .ok (.invokevirtual 453, 3) := dk_182 1 197 (dk_at dksX1_link_2 6 rfl rfl)
theorem dX1_link_56 : decode cX1_link 56 = .ok (.putfield 456, 3) := dk_181 1 200 (dk_at dksX1_link_2 9 rfl rfl)
theorem dX1_link_59 : decode cX1_link 59 = .ok (.iinc 1 1, 3) := dk_132 1 1 (dk_at dksX1_link_2 12 rfl rfl)
theorem dX1_link_62 : decode cX1_link 62 = .ok (.goto (-60), 3) := dk_167 255 196 (dk_at dksX1_link_2 15 rfl rfl)
theorem dX1_link_65 : decode cX1_link 65 = .ok (.iconst 0, 1) := dk_3 (dk_at dksX1_link_2 18 rfl rfl)
theorem dX1_link_66 : decode cX1_link 66 = .ok (.istore_n 1, 1) := dk_60 (dk_at dksX1_link_2 19 rfl rfl)
theorem dX1_link_67 : decode cX1_link 67 = .ok (.iload_n 1, 1) := dk_27 (dk_at dksX1_link_2 20 rfl rfl)
theorem dX1_link_68 : decode cX1_link 68 = .ok (.aload_n 0, 1) := dk_42 (dk_at dksX1_link_2 21 rfl rfl)
theorem dX1_link_69 : decode cX1_link 69 = .ok (.getfield 28, 3) := dk_180 0 28 (dk_at dksX1_link_3 0 rfl rfl)
theorem dX1_link_72 : decode cX1_link 72 = .ok (.invokevirtual 144, 3) := dk_182 0 144 (dk_at dksX1_link_3 3 rfl rfl)
theorem dX1_link_75 : decode cX1_link 75 = .ok (.if_icmp .ge 77, 3) := dk_162 0 77 (dk_at dksX1_link_3 6 rfl rfl)
theorem dX1_link_78 : decode cX1_link 78 = .ok (.aload_n 0, 1) := dk_42 (dk_at dksX1_link_3 9 rfl rfl)
theorem dX1_link_79 : decode cX1_link 79 = .ok (.getfield 28, 3) := dk_180 0 28 (dk_at dksX1_link_3 10 rfl rfl)
theorem dX1_link_82 : decode cX1_link 82 = .ok (.iload_n 1, 1) := dk_27 (dk_at dksX1_link_3 13 rfl rfl)
theorem dX1_link_83 : decode cX1_link 83 = .ok (.invokevirtual 192, 3) := dk_182 0 192 (dk_at dksX1_link_3 14 rfl rfl)
theorem dX1_link_86 : decode cX1_link 86 = .ok (.checkcast 329, 3) := dk_192 1 73 (dk_at dksX1_link_3 17 rfl rfl)
theorem dX1_link_89 : decode cX1_link 89 = .ok (.astore_n 2, 1) := dk_77 (dk_at dksX1_link_3 20 rfl rfl)
theorem dX1_link_90 : decode cX1_link 90 = .ok (.iconst 0, 1) := dk_3 (dk_at dksX1_link_3 21 rfl rfl)
theorem dX1_link_91 : decode cX1_link 91 = .ok (.istore_n 3, 1) := dk_62 (dk_at dksX1_link_3 22 rfl rfl)
theorem dX1_link_92 : decode cX1_link 92 = .ok (.iload_n 3, 1) := dk_29 (dk_at dksX1_link_3 23 rfl rfl)
theorem dX1_link_93 : decode cX1_link 93 = .ok (.aload_n 2, 1) := dk_44 (dk_at dksX1_link_4 0 rfl rfl)
theorem dX1_link_94 : decode cX1_link 94 = .ok (.getfield 423, 3) := dk_180 1 167 (dk_at dksX1_link_4 1 rfl rfl)
theorem dX1_link_97 : decode cX1_link 97 = .ok (.invokevirtual 144, 3) := dk_182 0 144 (dk_at dksX1_link_4 4 rfl rfl)
theorem dX1_link_100 : decode cX1_link 100 = .ok (.if_icmp .ge 46, 3) := dk_162 0 46 (dk_at dksX1_link_4 7 rfl rfl)
theorem dX1_link_103 : decode cX1_link 103 = .ok (.aload_n 2, 1) := dk_44 (dk_at dksX1_link_4 10 rfl rfl)
theorem dX1_link_104 : decode cX1_link 104 = .ok (.getfield 459, 3) := dk_180 1 203 (dk_at dksX1_link_4 11 rfl rfl)
theorem dX1_link_107 : decode cX1_link 107 = .ok (.aload_n 0, 1) := dk_42 (dk_at dksX1_link_4 14 rfl rfl)
theorem dX1_link_108 : decode cX1_link 108 = .ok (.aload_n 2, 1) := dk_44 (dk_at dksX1_link_4 15 rfl rfl)
theorem dX1_link_109 : decode cX1_link 109 = .ok (.getfield 423, 3) := dk_180 1 167 (dk_at dksX1_link_4 16 rfl rfl)
theorem dX1_link_112 : decode cX1_link 112 = .ok (.iload_n 3, 1) := dk_29 (dk_at dksX1_link_4 19 rfl rfl)
theorem dX1_link_113 : decode cX1_link 113 = .ok (.invokevirtual 192, 3) := dk_182 0 192 (dk_at dksX1_link_4 20 rfl rfl)
theorem dX1_link_116 : decode cX1_link 116 = .ok (.checkcast 83, 3) := dk_192 0 83 (dk_at dksX1_link_5 0 rfl rfl)
theorem dX1_link_119 : decode cX1_link 119 = .ok (.aload_n 2, 1) := dk_44 (dk_at dksX1_link_5 3 rfl rfl)
theorem dX1_link_120 : decode cX1_link 120 = .ok (.getfield 426, 3) := dk_180 1 170 (dk_at dksX1_link_5 4 rfl rfl)
theorem dX1_link_123 : decode cX1_link 123 = .ok (.iload_n 3, 1) := dk_29 (dk_at dksX1_link_5 7 rfl rfl)
theorem dX1_link_124 : decode cX1_link 124 = .ok (.invokevirtual 192, 3) := dk_182 0 192 (dk_at dksX1_link_5 8 rfl rfl)
theorem dX1_link_127 : decode cX1_link 127 = .ok (.checkcast 403, 3) := dk_192 1 147 (dk_at dksX1_link_5 11 rfl rfl)
theorem dX1_link_130 : decode cX1_link 130 = .ok (.invokevirtual 450, 3) := dk_182 1 194 (dk_at dksX1_link_5 14 rfl rfl)
theorem dX1_link_133 : decode cX1_link 133 = .ok (.invokevirtual 453, 3) := dk_182 1 197 (dk_at dksX1_link_5 17 rfl rfl)
theorem dX1_link_136 : decode cX1_link 136 = .ok (.invokevirtual 211, 3) := dk_182 0 211 (dk_at dksX1_link_5 20 rfl rfl)
theorem dX1_link_139 : decode cX1_link 139 = .ok (.pop, 1) := dk_87 (dk_at dksX1_link_5 23 rfl rfl)
theorem dX1_link_140 : decode cX1_link 140 = .ok (.iinc 3 1, 3) := dk_132 3 1 (dk_at dksX1_link_6 0 rfl rfl)
theorem dX1_link_143 : decode cX1_link 143 = .ok (.goto (-51), 3) := dk_167 255 205 (dk_at dksX1_link_6 3 rfl rfl)
theorem dX1_link_146 : decode cX1_link 146 = .ok (.iinc 1 1, 3) := dk_132 1 1 (dk_at dksX1_link_6 6 rfl rfl)
theorem dX1_link_149 : decode cX1_link 149 = .ok (.goto (-82), 3) := dk_167 255 174 (dk_at dksX1_link_6 9 rfl rfl)
theorem dX1_link_152 : decode cX1_link 152 = .ok (.iconst 0, 1) := dk_3 (dk_at dksX1_link_6 12 rfl rfl)
theorem dX1_link_153 : decode cX1_link 153 = .ok (.istore_n 1, 1) := dk_60 (dk_at dksX1_link_6 13 rfl rfl)
theorem dX1_link_154 : decode cX1_link 154 = .ok (.iload_n 1, 1) := dk_27 (dk_at dksX1_link_6 14 rfl rfl)
theorem dX1_link_155 : decode cX1_link 155 = .ok (.aload_n 0, 1) := dk_42 (dk_at dksX1_link_6 15 rfl rfl)
theorem dX1_link_156 : decode cX1_link 156 = .ok (.getfield 31, 3) := dk_180 0 31 (dk_at dksX1_link_6 16 rfl rfl)
theorem dX1_link_159 : decode cX1_link 159 = .ok (.invokevirtual 144, 3) := dk_182 0 144 (dk_at dksX1_link_6 19 rfl rfl)
theorem dX1_link_162 : decode cX1_link 162 = .ok (.if_icmp .ge 53, 3) := dk_162 0 53 (dk_at dksX1_link_7 0 rfl rfl)
theorem dX1_link_165 : decode cX1_link 165 = .ok (.aload_n 0, 1) := dk_42 (dk_at dksX1_link_7 3 rfl rfl)
theorem dX1_link_166 : decode cX1_link 166 = .ok (.getfield 31, 3) := dk_180 0 31 (dk_at dksX1_link_7 4 rfl rfl)
theorem dX1_link_169 : decode cX1_link 169 = .ok (.iload_n 1, 1) := dk_27 (dk_at dksX1_link_7 7 rfl rfl)
theorem dX1_link_170 : decode cX1_link 170 = .ok (.invokevirtual 192, 3) := dk_182 0 192 (dk_at dksX1_link_7 8 rfl rfl)
theorem dX1_link_173 : decode cX1_link 173 = .ok (.checkcast 300, 3) := dk_192 1 44 (dk_at dksX1_link_7 11 rfl rfl)
theorem dX1_link_176 : decode cX1_link 176 = .ok (.getfield 410, 3) := dk_180 1 154 (dk_at dksX1_link_7 14 rfl rfl)
theorem dX1_link_179 : decode cX1_link 179 = .ok (.getfield 397, 3) := dk_180 1 141 (dk_at dksX1_link_7 17 rfl rfl)
theorem dX1_link_182 : decode cX1_link 182 = .ok (.ifCond .eq 27, 3) := dk_153 0 27 (dk_at dksX1_link_7 20 rfl rfl)
theorem dX1_link_185 : decode cX1_link 185 = .ok (.aload_n 0, 1) := dk_42 (dk_at dksX1_link_7 23 rfl rfl)
theorem dX1_link_186 : decode cX1_link 186 = .ok (.getfield 131, 3) := dk_180 0 131 (dk_at dksX1_link_8 0 rfl rfl)
theorem dX1_link_189 : decode cX1_link 189 = .ok (.bipush 12, 2) := dk_16 12 (dk_at dksX1_link_8 3 rfl rfl)
theorem dX1_link_191 : decode cX1_link 191 = .ok (.aload_n 0, 1) := dk_42 (dk_at dksX1_link_8 5 rfl rfl)
theorem dX1_link_192 : decode cX1_link 192 = .ok (.getfield 34, 3) := dk_180 0 34 (dk_at dksX1_link_8 6 rfl rfl)
theorem dX1_link_195 : decode cX1_link 195 = .ok (.iload_n 1, 1) := dk_27 (dk_at dksX1_link_8 9 rfl rfl)
theorem dX1_link_196 : decode cX1_link 196 = .ok (.invokevirtual 192, 3) := dk_182 0 192 (dk_at dksX1_link_8 10 rfl rfl)
theorem dX1_link_199 : decode cX1_link 199 = .ok (.checkcast 403, 3) := dk_192 1 147 (dk_at dksX1_link_8 13 rfl rfl)
theorem dX1_link_202 : decode cX1_link 202 = .ok (.invokevirtual 450, 3) := dk_182 1 194 (dk_at dksX1_link_8 16 rfl rfl)
theorem dX1_link_205 : decode cX1_link 205 = .ok (.iconst (-1), 1) := dk_2 (dk_at dksX1_link_8 19 rfl rfl)
theorem dX1_link_206 : decode cX1_link 206 = .ok (.invokevirtual 167, 3) := dk_182 0 167 (dk_at dksX1_link_8 20 rfl rfl)
theorem dX1_link_209 : decode cX1_link 209 = .ok (.iinc 1 1, 3) := dk_132 1 1 (dk_at dksX1_link_9 0 rfl rfl)
theorem dX1_link_212 : decode cX1_link 212 = .ok (.goto (-58), 3) := dk_167 255 198 (dk_at dksX1_link_9 3 rfl rfl)
theorem dX1_link_215 : decode cX1_link 215 = .ok (.iconst 0, 1) := dk_3 (dk_at dksX1_link_9 6 rfl rfl)
theorem dX1_link_216 : decode cX1_link 216 = .ok (.istore_n 1, 1) := dk_60 (dk_at dksX1_link_9 7 rfl rfl)
theorem dX1_link_217 : decode cX1_link 217 = .ok (.iload_n 1, 1) := dk_27 (dk_at dksX1_link_9 8 rfl rfl)
theorem dX1_link_218 : decode cX1_link 218 = .ok (.aload_n 0, 1) := dk_42 (dk_at dksX1_link_9 9 rfl rfl)
theorem dX1_link_219 : decode cX1_link 219 = .ok (.getfield 131, 3) := dk_180 0 131 (dk_at dksX1_link_9 10 rfl rfl)
theorem dX1_link_222 : decode cX1_link 222 = .ok (.getfield 141, 3) := dk_180 0 141 (dk_at dksX1_link_9 13 rfl rfl)
theorem dX1_link_225 : decode cX1_link 225 = .ok (.invokevirtual 144, 3) := dk_182 0 144 (dk_at dksX1_link_9 16 rfl rfl)
theorem dX1_link_228 : decode cX1_link 228 = .ok (.if_icmp .ge 51, 3) := dk_162 0 51 (dk_at dksX1_link_9 19 rfl rfl)
theorem dX1_link_231 : decode cX1_link 231 = .ok (.aload_n 0, 1) := dk_42 (dk_at dksX1_link_9 22 rfl rfl)
theorem dX1_link_232 : decode cX1_link 232 = .ok (.getfield 131, 3) := dk_180 0 131 (dk_at dksX1_link_10 0 rfl rfl)
theorem dX1_link_235 : decode cX1_link 235 = .ok (.getfield 141, 3) := dk_180 0 141 (dk_at dksX1_link_10 3 rfl rfl)
theorem dX1_link_238 : decode cX1_link 238 = .ok (.iload_n 1, 1) := dk_27 (dk_at dksX1_link_10 6 rfl rfl)
theorem dX1_link_239 : decode cX1_link 239 = .ok (.invokevirtual 192, 3) := dk_182 0 192 (dk_at dksX1_link_10 7 rfl rfl)
theorem dX1_link_242 : decode cX1_link 242 = .ok (.checkcast 199, 3) := dk_192 0 199 (dk_at dksX1_link_10 10 rfl rfl)
theorem dX1_link_245 : decode cX1_link 245 = .ok (.astore_n 2, 1) := dk_77 (dk_at dksX1_link_10 13 rfl rfl)
theorem dX1_link_246 : decode cX1_link 246 = .ok (.aload_n 2, 1) := dk_44 (dk_at dksX1_link_10 14 rfl rfl)
theorem dX1_link_247 : decode cX1_link 247 = .ok (.aload_n 2, 1) := dk_44 (dk_at dksX1_link_10 15 rfl rfl)
theorem dX1_link_248 : decode cX1_link 248 = .ok (.getfield 219, 3) := dk_180 0 219 (dk_at dksX1_link_10 16 rfl rfl)
theorem dX1_link_251 : decode cX1_link 251 = .ok (.ifnonnull 7, 3) := dk_199 0 7 (dk_at dksX1_link_10 19 rfl rfl)
theorem dX1_link_254 : decode cX1_link 254 = .ok (.aconst_null, 1) := dk_1 (dk_at dksX1_link_10 22 rfl rfl)
theorem dX1_link_255 : decode cX1_link 255 = .ok (.goto 15, 3) := dk_167 0 15 (dk_at dksX1_link_11 0 rfl rfl)
theorem dX1_link_258 : decode cX1_link 258 = .ok (.aload_n 0, 1) := dk_42 (dk_at dksX1_link_11 3 rfl rfl)
theorem dX1_link_259 : decode cX1_link 259 = .ok (.aload_n 2, 1) := dk_44 (dk_at dksX1_link_11 4 rfl rfl)
theorem dX1_link_260 : decode cX1_link 260 = .ok (.getfield 219, 3) := dk_180 0 219 (dk_at dksX1_link_11 5 rfl rfl)
theorem dX1_link_263 : decode cX1_link 263 = .ok (.aload_n 2, 1) := dk_44 (dk_at dksX1_link_11 8 rfl rfl)
theorem dX1_link_264 : decode cX1_link 264 = .ok (.getfield 221, 3) := dk_180 0 221 (dk_at dksX1_link_11 9 rfl rfl)
theorem dX1_link_267 : decode cX1_link 267 = .ok (.invokevirtual 453, 3) := dk_182 1 197 (dk_at dksX1_link_11 12 rfl rfl)
theorem dX1_link_270 : decode cX1_link 270 = .ok (.putfield 462, 3) := dk_181 1 206 (dk_at dksX1_link_11 15 rfl rfl)
theorem dX1_link_273 : decode cX1_link 273 = .ok (.iinc 1 1, 3) := dk_132 1 1 (dk_at dksX1_link_11 18 rfl rfl)
theorem dX1_link_276 : decode cX1_link 276 = .ok (.goto (-59), 3) := dk_167 255 197 (dk_at dksX1_link_11 21 rfl rfl)
theorem dX1_link_279 : decode cX1_link 279 = .ok (.return_, 1) := dk_177 (dk_at dksX1_link_12 0 rfl rfl)
abbrev cX1_method : ByteArray := prog_15_method_27_code
def yX1_method : MethodName := ⟨RX1, "method", "(Ljava/lang/String;I)LThrowRules$Method;"⟩
def dkwX1_method_1 : List UInt8 := [28, 2, 182, 0, 167, 45, 176]
abbrev dktX1_method_1 : List UInt8 := dkwX1_method_1 ++ []
def dkwX1_method_0 : List UInt8 := [42, 180, 0, 131, 180, 0, 208, 43, 182, 0, 159, 192, 0, 199, 78, 45, 199, 0, 13, 42, 180, 0, 131, 4]
abbrev dktX1_method_0 : List UInt8 := dkwX1_method_0 ++ dktX1_method_1
theorem dksX1_method_0 : cX1_method.data.toList.drop 0 = dktX1_method_0 := by decide +kernel
theorem dksX1_method_1 : cX1_method.data.toList.drop 24 = dktX1_method_1 := dk_seg dksX1_method_0 24 rfl rfl
theorem dX1_method_0 : decode cX1_method 0 = .ok (.aload_n 0, 1) := dk_42 (dk_at dksX1_method_0 0 rfl rfl)
theorem dX1_method_1 : decode cX1_method 1 = .ok (.getfield 131, 3) := dk_180 0 131 (dk_at dksX1_method_0 1 rfl rfl)
theorem dX1_method_4 : decode cX1_method 4 = .ok (.getfield 208, 3) := dk_180 0 208 (dk_at dksX1_method_0 4 rfl rfl)
theorem dX1_method_7 : decode cX1_method 7 = .ok (.aload_n 1, 1) := dk_43 (dk_at dksX1_method_0 7 rfl rfl)
theorem dX1_method_8 : decode cX1_method 8 = .ok (.invokevirtual 159, 3) := dk_182 0 159 (dk_at dksX1_method_0 8 rfl rfl)
theorem dX1_method_11 : decode cX1_method 11 = .ok (.checkcast 199, 3) := dk_192 0 199 (dk_at dksX1_method_0 11 rfl rfl)
theorem dX1_method_14 : decode cX1_method 14 = .ok (.astore_n 3, 1) := dk_78 (dk_at dksX1_method_0 14 rfl rfl)
theorem dX1_method_15 : decode cX1_method 15 = .ok (.aload_n 3, 1) := dk_45 (dk_at dksX1_method_0 15 rfl rfl)
theorem dX1_method_16 : decode cX1_method 16 = .ok (.ifnonnull 13, 3) := dk_199 0 13 (dk_at dksX1_method_0 16 rfl rfl)
theorem dX1_method_19 : decode cX1_method 19 = .ok (.aload_n 0, 1) := dk_42 (dk_at dksX1_method_0 19 rfl rfl)
theorem dX1_method_20 : decode cX1_method 20 = .ok (.getfield 131, 3) := dk_180 0 131 (dk_at dksX1_method_0 20 rfl rfl)
theorem dX1_method_23 : decode cX1_method 23 = .ok (.iconst 1, 1) := dk_4 (dk_at dksX1_method_0 23 rfl rfl)
theorem dX1_method_24 : decode cX1_method 24 = .ok (.iload_n 2, 1) := dk_28 (dk_at dksX1_method_1 0 rfl rfl)
theorem dX1_method_25 : decode cX1_method 25 = .ok (.iconst (-1), 1) := dk_2 (dk_at dksX1_method_1 1 rfl rfl)
theorem dX1_method_26 : decode cX1_method 26 = .ok (.invokevirtual 167, 3) := dk_182 0 167 (dk_at dksX1_method_1 2 rfl rfl)
theorem dX1_method_29 : decode cX1_method 29 = .ok (.aload_n 3, 1) := dk_45 (dk_at dksX1_method_1 5 rfl rfl)
theorem dX1_method_30 : decode cX1_method 30 = .ok (.areturn, 1) := dk_176 (dk_at dksX1_method_1 6 rfl rfl)
abbrev cX1_judge : ByteArray := prog_15_method_28_code
def yX1_judge : MethodName := ⟨RX1, "judge", "()V"⟩
def dkwX1_judge_8 : List UInt8 := [132, 3, 1, 167, 255, 148, 132, 1, 1, 167, 255, 64, 177]
abbrev dktX1_judge_8 : List UInt8 := dkwX1_judge_8 ++ []
def dkwX1_judge_7 : List UInt8 := [16, 10, 44, 180, 0, 234, 29, 182, 0, 192, 192, 0, 253, 180, 1, 232, 25, 4, 180, 1, 233, 182, 0, 167]
abbrev dktX1_judge_7 : List UInt8 := dkwX1_judge_7 ++ dktX1_judge_8
def dkwX1_judge_6 : List UInt8 := [180, 0, 131, 44, 180, 1, 206, 180, 0, 234, 182, 1, 215, 182, 1, 228, 154, 0, 31, 42, 180, 0, 131]
abbrev dktX1_judge_6 : List UInt8 := dkwX1_judge_6 ++ dktX1_judge_7
def dkwX1_judge_5 : List UInt8 := [198, 0, 69, 42, 180, 0, 131, 25, 4, 182, 1, 224, 153, 0, 57, 42, 180, 0, 131, 25, 4, 42]
abbrev dktX1_judge_5 : List UInt8 := dkwX1_judge_5 ++ dktX1_judge_6
def dkwX1_judge_4 : List UInt8 := [182, 0, 144, 162, 0, 96, 44, 180, 0, 234, 29, 182, 0, 192, 192, 0, 253, 180, 1, 223, 58, 4, 25, 4]
abbrev dktX1_judge_4 : List UInt8 := dkwX1_judge_4 ++ dktX1_judge_5
def dkwX1_judge_3 : List UInt8 := [182, 1, 215, 44, 180, 1, 219, 182, 1, 220, 3, 62, 44, 180, 1, 206, 198, 0, 107, 29, 44, 180, 0, 234]
abbrev dktX1_judge_3 : List UInt8 := dkwX1_judge_3 ++ dktX1_judge_4
def dkwX1_judge_2 : List UInt8 := [182, 1, 209, 42, 180, 0, 131, 44, 180, 0, 246, 180, 1, 212, 42, 180, 0, 131, 44, 180, 0, 234]
abbrev dktX1_judge_2 : List UInt8 := dkwX1_judge_2 ++ dktX1_judge_3
def dkwX1_judge_1 : List UInt8 := [182, 0, 192, 192, 0, 199, 77, 44, 180, 0, 246, 198, 0, 43, 44, 180, 0, 246, 42, 180, 0, 131]
abbrev dktX1_judge_1 : List UInt8 := dkwX1_judge_1 ++ dktX1_judge_2
def dkwX1_judge_0 : List UInt8 := [3, 60, 27, 42, 180, 0, 131, 180, 0, 141, 182, 0, 144, 162, 0, 184, 42, 180, 0, 131, 180, 0, 141, 27]
abbrev dktX1_judge_0 : List UInt8 := dkwX1_judge_0 ++ dktX1_judge_1
theorem dksX1_judge_0 : cX1_judge.data.toList.drop 0 = dktX1_judge_0 := by decide +kernel
theorem dksX1_judge_1 : cX1_judge.data.toList.drop 24 = dktX1_judge_1 := dk_seg dksX1_judge_0 24 rfl rfl
theorem dksX1_judge_2 : cX1_judge.data.toList.drop 46 = dktX1_judge_2 := dk_seg dksX1_judge_1 22 rfl rfl
theorem dksX1_judge_3 : cX1_judge.data.toList.drop 68 = dktX1_judge_3 := dk_seg dksX1_judge_2 22 rfl rfl
theorem dksX1_judge_4 : cX1_judge.data.toList.drop 92 = dktX1_judge_4 := dk_seg dksX1_judge_3 24 rfl rfl
theorem dksX1_judge_5 : cX1_judge.data.toList.drop 116 = dktX1_judge_5 := dk_seg dksX1_judge_4 24 rfl rfl
theorem dksX1_judge_6 : cX1_judge.data.toList.drop 138 = dktX1_judge_6 := dk_seg dksX1_judge_5 22 rfl rfl
theorem dksX1_judge_7 : cX1_judge.data.toList.drop 161 = dktX1_judge_7 := dk_seg dksX1_judge_6 23 rfl rfl
theorem dksX1_judge_8 : cX1_judge.data.toList.drop 185 = dktX1_judge_8 := dk_seg dksX1_judge_7 24 rfl rfl
theorem dX1_judge_0 : decode cX1_judge 0 = .ok (.iconst 0, 1) := dk_3 (dk_at dksX1_judge_0 0 rfl rfl)
theorem dX1_judge_1 : decode cX1_judge 1 = .ok (.istore_n 1, 1) := dk_60 (dk_at dksX1_judge_0 1 rfl rfl)
theorem dX1_judge_2 : decode cX1_judge 2 = .ok (.iload_n 1, 1) := dk_27 (dk_at dksX1_judge_0 2 rfl rfl)
theorem dX1_judge_3 : decode cX1_judge 3 = .ok (.aload_n 0, 1) := dk_42 (dk_at dksX1_judge_0 3 rfl rfl)
theorem dX1_judge_4 : decode cX1_judge 4 = .ok (.getfield 131, 3) := dk_180 0 131 (dk_at dksX1_judge_0 4 rfl rfl)
theorem dX1_judge_7 : decode cX1_judge 7 = .ok (.getfield 141, 3) := dk_180 0 141 (dk_at dksX1_judge_0 7 rfl rfl)
theorem dX1_judge_10 : decode cX1_judge 10 = .ok (.invokevirtual 144, 3) := dk_182 0 144 (dk_at dksX1_judge_0 10 rfl rfl)
theorem dX1_judge_13 : decode cX1_judge 13 = .ok (.if_icmp .ge 184, 3) := dk_162 0 184 (dk_at dksX1_judge_0 13 rfl rfl)
theorem dX1_judge_16 : decode cX1_judge 16 = .ok (.aload_n 0, 1) := dk_42 (dk_at dksX1_judge_0 16 rfl rfl)
theorem dX1_judge_17 : decode cX1_judge 17 = .ok (.getfield 131, 3) := dk_180 0 131 (dk_at dksX1_judge_0 17 rfl rfl)
theorem dX1_judge_20 : decode cX1_judge 20 = .ok (.getfield 141, 3) := dk_180 0 141 (dk_at dksX1_judge_0 20 rfl rfl)
theorem dX1_judge_23 : decode cX1_judge 23 = .ok (.iload_n 1, 1) := dk_27 (dk_at dksX1_judge_0 23 rfl rfl)
theorem dX1_judge_24 : decode cX1_judge 24 = .ok (.invokevirtual 192, 3) := dk_182 0 192 (dk_at dksX1_judge_1 0 rfl rfl)
theorem dX1_judge_27 : decode cX1_judge 27 = .ok (.checkcast 199, 3) := dk_192 0 199 (dk_at dksX1_judge_1 3 rfl rfl)
theorem dX1_judge_30 : decode cX1_judge 30 = .ok (.astore_n 2, 1) := dk_77 (dk_at dksX1_judge_1 6 rfl rfl)
theorem dX1_judge_31 : decode cX1_judge 31 = .ok (.aload_n 2, 1) := dk_44 (dk_at dksX1_judge_1 7 rfl rfl)
theorem dX1_judge_32 : decode cX1_judge 32 = .ok (.getfield 246, 3) := dk_180 0 246 (dk_at dksX1_judge_1 8 rfl rfl)
theorem dX1_judge_35 : decode cX1_judge 35 = .ok (.ifnull 43, 3) := dk_198 0 43 (dk_at dksX1_judge_1 11 rfl rfl)
theorem dX1_judge_38 : decode cX1_judge 38 = .ok (.aload_n 2, 1) := dk_44 (dk_at dksX1_judge_1 14 rfl rfl)
theorem dX1_judge_39 : decode cX1_judge 39 = .ok (.getfield 246, 3) := dk_180 0 246 (dk_at dksX1_judge_1 15 rfl rfl)
theorem dX1_judge_42 : decode cX1_judge 42 = .ok (.aload_n 0, 1) := dk_42 (dk_at dksX1_judge_1 18 rfl rfl)
theorem dX1_judge_43 : decode cX1_judge 43 = .ok (.getfield 131, 3) := dk_180 0 131 (dk_at dksX1_judge_1 19 rfl rfl)
theorem dX1_judge_46 : decode cX1_judge 46 = .ok (.invokevirtual 465, 3) := dk_182 1 209 (dk_at dksX1_judge_2 0 rfl rfl)
theorem dX1_judge_49 : decode cX1_judge 49 = .ok (.aload_n 0, 1) := dk_42 (dk_at dksX1_judge_2 3 rfl rfl)
theorem dX1_judge_50 : decode cX1_judge 50 = .ok (.getfield 131, 3) := dk_180 0 131 (dk_at dksX1_judge_2 4 rfl rfl)
theorem dX1_judge_53 : decode cX1_judge 53 = .ok (.aload_n 2, 1) := dk_44 (dk_at dksX1_judge_2 7 rfl rfl)
theorem dX1_judge_54 : decode cX1_judge 54 = .ok (.getfield 246, 3) := dk_180 0 246 (dk_at dksX1_judge_2 8 rfl rfl)
theorem dX1_judge_57 : decode cX1_judge 57 = .ok (.getfield 468, 3) := dk_180 1 212 (dk_at dksX1_judge_2 11 rfl rfl)
theorem dX1_judge_60 : decode cX1_judge 60 = .ok (.aload_n 0, 1) := dk_42 (dk_at dksX1_judge_2 14 rfl rfl)
theorem dX1_judge_61 : decode cX1_judge 61 = .ok (.getfield 131, 3) := dk_180 0 131 (dk_at dksX1_judge_2 15 rfl rfl)
theorem dX1_judge_64 : decode cX1_judge 64 = .ok (.aload_n 2, 1) := dk_44 (dk_at dksX1_judge_2 18 rfl rfl)
theorem dX1_judge_65 : decode cX1_judge 65 = .ok (.getfield 234, 3) := dk_180 0 234 (dk_at dksX1_judge_2 19 rfl rfl)
theorem dX1_judge_68 : decode cX1_judge 68 = .ok (.invokevirtual 471, 3) := dk_182 1 215 (dk_at dksX1_judge_3 0 rfl rfl)
theorem dX1_judge_71 : decode cX1_judge 71 = .ok (.aload_n 2, 1) := dk_44 (dk_at dksX1_judge_3 3 rfl rfl)
theorem dX1_judge_72 : decode cX1_judge 72 = .ok (.getfield 475, 3) := dk_180 1 219 (dk_at dksX1_judge_3 4 rfl rfl)
theorem dX1_judge_75 : decode cX1_judge 75 = .ok (.invokevirtual 476, 3) := dk_182 1 220 (dk_at dksX1_judge_3 7 rfl rfl)
theorem dX1_judge_78 : decode cX1_judge 78 = .ok (.iconst 0, 1) := dk_3 (dk_at dksX1_judge_3 10 rfl rfl)
theorem dX1_judge_79 : decode cX1_judge 79 = .ok (.istore_n 3, 1) := dk_62 (dk_at dksX1_judge_3 11 rfl rfl)
theorem dX1_judge_80 : decode cX1_judge 80 = .ok (.aload_n 2, 1) := dk_44 (dk_at dksX1_judge_3 12 rfl rfl)
theorem dX1_judge_81 : decode cX1_judge 81 = .ok (.getfield 462, 3) := dk_180 1 206 (dk_at dksX1_judge_3 13 rfl rfl)
theorem dX1_judge_84 : decode cX1_judge 84 = .ok (.ifnull 107, 3) := dk_198 0 107 (dk_at dksX1_judge_3 16 rfl rfl)
theorem dX1_judge_87 : decode cX1_judge 87 = .ok (.iload_n 3, 1) := dk_29 (dk_at dksX1_judge_3 19 rfl rfl)
theorem dX1_judge_88 : decode cX1_judge 88 = .ok (.aload_n 2, 1) := dk_44 (dk_at dksX1_judge_3 20 rfl rfl)
theorem dX1_judge_89 : decode cX1_judge 89 = .ok (.getfield 234, 3) := dk_180 0 234 (dk_at dksX1_judge_3 21 rfl rfl)
theorem dX1_judge_92 : decode cX1_judge 92 = .ok (.invokevirtual 144, 3) := dk_182 0 144 (dk_at dksX1_judge_4 0 rfl rfl)
theorem dX1_judge_95 : decode cX1_judge 95 = .ok (.if_icmp .ge 96, 3) := dk_162 0 96 (dk_at dksX1_judge_4 3 rfl rfl)
theorem dX1_judge_98 : decode cX1_judge 98 = .ok (.aload_n 2, 1) := dk_44 (dk_at dksX1_judge_4 6 rfl rfl)
theorem dX1_judge_99 : decode cX1_judge 99 = .ok (.getfield 234, 3) := dk_180 0 234 (dk_at dksX1_judge_4 7 rfl rfl)
theorem dX1_judge_102 : decode cX1_judge 102 = .ok (.iload_n 3, 1) := dk_29 (dk_at dksX1_judge_4 10 rfl rfl)
theorem dX1_judge_103 : decode cX1_judge 103 = .ok (.invokevirtual 192, 3) := dk_182 0 192 (dk_at dksX1_judge_4 11 rfl rfl)
theorem dX1_judge_106 : decode cX1_judge 106 = .ok (.checkcast 253, 3) := dk_192 0 253 (dk_at dksX1_judge_4 14 rfl rfl)
theorem dX1_judge_109 : decode cX1_judge 109 = .ok (.getfield 479, 3) := dk_180 1 223 (dk_at dksX1_judge_4 17 rfl rfl)
theorem dX1_judge_112 : decode cX1_judge 112 = .ok (.astore 4, 2) := dk_58 4 (dk_at dksX1_judge_4 20 rfl rfl)
theorem dX1_judge_114 : decode cX1_judge 114 = .ok (.aload 4, 2) := dk_25 4 (dk_at dksX1_judge_4 22 rfl rfl)
theorem dX1_judge_116 : decode cX1_judge 116 = .ok (.ifnull 69, 3) := dk_198 0 69 (dk_at dksX1_judge_5 0 rfl rfl)
theorem dX1_judge_119 : decode cX1_judge 119 = .ok (.aload_n 0, 1) := dk_42 (dk_at dksX1_judge_5 3 rfl rfl)
theorem dX1_judge_120 : decode cX1_judge 120 = .ok (.getfield 131, 3) := dk_180 0 131 (dk_at dksX1_judge_5 4 rfl rfl)
theorem dX1_judge_123 : decode cX1_judge 123 = .ok (.aload 4, 2) := dk_25 4 (dk_at dksX1_judge_5 7 rfl rfl)
theorem dX1_judge_125 : decode cX1_judge 125 = .ok (.invokevirtual 480, 3) := dk_182 1 224 (dk_at dksX1_judge_5 9 rfl rfl)
theorem dX1_judge_128 : decode cX1_judge 128 = .ok (.ifCond .eq 57, 3) := dk_153 0 57 (dk_at dksX1_judge_5 12 rfl rfl)
theorem dX1_judge_131 : decode cX1_judge 131 = .ok (.aload_n 0, 1) := dk_42 (dk_at dksX1_judge_5 15 rfl rfl)
theorem dX1_judge_132 : decode cX1_judge 132 = .ok (.getfield 131, 3) := dk_180 0 131 (dk_at dksX1_judge_5 16 rfl rfl)
theorem dX1_judge_135 : decode cX1_judge 135 = .ok (.aload 4, 2) := dk_25 4 (dk_at dksX1_judge_5 19 rfl rfl)
theorem dX1_judge_137 : decode cX1_judge 137 = .ok (.aload_n 0, 1) := dk_42 (dk_at dksX1_judge_5 21 rfl rfl)
theorem dX1_judge_138 : decode cX1_judge 138 = .ok (.getfield 131, 3) := dk_180 0 131 (dk_at dksX1_judge_6 0 rfl rfl)
theorem dX1_judge_141 : decode cX1_judge 141 = .ok (.aload_n 2, 1) := dk_44 (dk_at dksX1_judge_6 3 rfl rfl)
theorem dX1_judge_142 : decode cX1_judge 142 = .ok (.getfield 462, 3) := dk_180 1 206 (dk_at dksX1_judge_6 4 rfl rfl)
theorem dX1_judge_145 : decode cX1_judge 145 = .ok (.getfield 234, 3) := dk_180 0 234 (dk_at dksX1_judge_6 7 rfl rfl)
theorem dX1_judge_148 : decode cX1_judge 148 = .ok (.invokevirtual 471, 3) := dk_182 1 215 (dk_at dksX1_judge_6 10 rfl rfl)
theorem dX1_judge_151 : decode cX1_judge 151 = .ok (.invokevirtual 484, 3) := dk_182 1 228 (dk_at dksX1_judge_6 13 rfl rfl)
theorem dX1_judge_154 : decode cX1_judge 154 = .ok (.ifCond .ne 31, 3) := dk_154 0 31 (dk_at dksX1_judge_6 16 rfl rfl)
theorem dX1_judge_157 : decode cX1_judge 157 = .ok (.aload_n 0, 1) := dk_42 (dk_at dksX1_judge_6 19 rfl rfl)
theorem dX1_judge_158 : decode cX1_judge 158 = .ok (.getfield 131, 3) := dk_180 0 131 (dk_at dksX1_judge_6 20 rfl rfl)
theorem dX1_judge_161 : decode cX1_judge 161 = .ok (.bipush 10, 2) := dk_16 10 (dk_at dksX1_judge_7 0 rfl rfl)
theorem dX1_judge_163 : decode cX1_judge 163 = .ok (.aload_n 2, 1) := dk_44 (dk_at dksX1_judge_7 2 rfl rfl)
theorem dX1_judge_164 : decode cX1_judge 164 = .ok (.getfield 234, 3) := dk_180 0 234 (dk_at dksX1_judge_7 3 rfl rfl)
theorem dX1_judge_167 : decode cX1_judge 167 = .ok (.iload_n 3, 1) := dk_29 (dk_at dksX1_judge_7 6 rfl rfl)
theorem dX1_judge_168 : decode cX1_judge 168 = .ok (.invokevirtual 192, 3) := dk_182 0 192 (dk_at dksX1_judge_7 7 rfl rfl)
theorem dX1_judge_171 : decode cX1_judge 171 = .ok (.checkcast 253, 3) := dk_192 0 253 (dk_at dksX1_judge_7 10 rfl rfl)
theorem dX1_judge_174 : decode cX1_judge 174 = .ok (.getfield 488, 3) := dk_180 1 232 (dk_at dksX1_judge_7 13 rfl rfl)
theorem dX1_judge_177 : decode cX1_judge 177 = .ok (.aload 4, 2) := dk_25 4 (dk_at dksX1_judge_7 16 rfl rfl)
theorem dX1_judge_179 : decode cX1_judge 179 = .ok (.getfield 489, 3) := dk_180 1 233 (dk_at dksX1_judge_7 18 rfl rfl)
theorem dX1_judge_182 : decode cX1_judge 182 = .ok (.invokevirtual 167, 3) := dk_182 0 167 (dk_at dksX1_judge_7 21 rfl rfl)
theorem dX1_judge_185 : decode cX1_judge 185 = .ok (.iinc 3 1, 3) := dk_132 3 1 (dk_at dksX1_judge_8 0 rfl rfl)
theorem dX1_judge_188 : decode cX1_judge 188 = .ok (.goto (-108), 3) := dk_167 255 148 (dk_at dksX1_judge_8 3 rfl rfl)
theorem dX1_judge_191 : decode cX1_judge 191 = .ok (.iinc 1 1, 3) := dk_132 1 1 (dk_at dksX1_judge_8 6 rfl rfl)
theorem dX1_judge_194 : decode cX1_judge 194 = .ok (.goto (-192), 3) := dk_167 255 64 (dk_at dksX1_judge_8 9 rfl rfl)
theorem dX1_judge_197 : decode cX1_judge 197 = .ok (.return_, 1) := dk_177 (dk_at dksX1_judge_8 12 rfl rfl)
theorem q94 : (Jvm.Cond.initialized "ThrowRules$Reader") ∈ lw_all := lw_g (lw_at lw_m1 2 rfl) rfl
theorem q155 : (Jvm.Cond.instantiable "ThrowRules$Reader" (18 : Nat)) ∈ lw_all := lw_g (lw_at lw_m1 63 rfl) rfl
theorem q157 : (Jvm.Cond.instanceMethod ({ cls := "ThrowRules$Reader", name := "<init>", desc := "()V" } : Jvm.MethodName)) ∈ lw_all := lw_g (lw_at lw_m1 65 rfl) rfl
theorem q158 : (Jvm.Cond.code ({ cls := "ThrowRules$Reader", name := "<init>", desc := "()V" } : Jvm.MethodName) prog_15_method_1_code (1 : Nat) (Option.none : Option Jvm.ClassFile.FieldType)) ∈ lw_all := lw_g (lw_at lw_m1 66 rfl) rfl
theorem q159 : (Jvm.Cond.methodLink "ThrowRules$Reader" (3 : Nat) ({ cls := "java/lang/Object", name := "<init>", desc := "()V" } : Jvm.MethodName)) ∈ lw_all := lw_g (lw_at lw_m1 67 rfl) rfl
theorem q160 : (Jvm.Cond.classLink "ThrowRules$Reader" (9 : Nat) "ThrowRules$Wrong") ∈ lw_all := lw_g (lw_at lw_m1 68 rfl) rfl
theorem q199 : (Jvm.Cond.methodLink "ThrowRules$Reader" (11 : Nat) ({ cls := "ThrowRules$Wrong", name := "<init>", desc := "()V" } : Jvm.MethodName)) ∈ lw_all := lw_g (lw_at lw_m1 107 rfl) rfl
theorem q211 : (Jvm.Cond.fieldLinkNest "ThrowRules$Reader" (37 : Nat) "ThrowRules$Wrong" "place" "I" "ThrowRules") ∈ lw_tbl := lw_at lw_m1 119 rfl
theorem q229 : (Jvm.Cond.classLink "ThrowRules$Reader" (18 : Nat) "java/util/ArrayList") ∈ lw_all := lw_g (lw_at lw_m1 137 rfl) rfl
theorem q231 : (Jvm.Cond.methodLink "ThrowRules$Reader" (20 : Nat) ({ cls := "java/util/ArrayList", name := "<init>", desc := "()V" } : Jvm.MethodName)) ∈ lw_all := lw_g (lw_at lw_m1 139 rfl) rfl
theorem q255 : (Jvm.Cond.fieldLink "ThrowRules$Reader" (12 : Nat) "ThrowRules$Reader" "wrong" "LThrowRules$Wrong;") ∈ lw_all := lw_g (lw_at lw_m1 163 rfl) rfl
theorem q256 : (Jvm.Cond.fieldLink "ThrowRules$Reader" (47 : Nat) "ThrowRules$Reader" "text" "[B") ∈ lw_all := lw_g (lw_at lw_m1 164 rfl) rfl
theorem q257 : (Jvm.Cond.fieldLink "ThrowRules$Reader" (44 : Nat) "ThrowRules$Reader" "size" "I") ∈ lw_all := lw_g (lw_at lw_m1 165 rfl) rfl
theorem q258 : (Jvm.Cond.fieldLink "ThrowRules$Reader" (41 : Nat) "ThrowRules$Reader" "at" "I") ∈ lw_all := lw_g (lw_at lw_m1 166 rfl) rfl
theorem q259 : (Jvm.Cond.fieldLink "ThrowRules$Reader" (51 : Nat) "ThrowRules$Reader" "place" "I") ∈ lw_all := lw_g (lw_at lw_m1 167 rfl) rfl
theorem q260 : (Jvm.Cond.fieldLink "ThrowRules$Reader" (52 : Nat) "ThrowRules$Reader" "word" "Ljava/lang/String;") ∈ lw_all := lw_g (lw_at lw_m1 168 rfl) rfl
theorem q261 : (Jvm.Cond.fieldLink "ThrowRules$Reader" (56 : Nat) "ThrowRules$Reader" "sign" "I") ∈ lw_all := lw_g (lw_at lw_m1 169 rfl) rfl
theorem q262 : (Jvm.Cond.fieldLink "ThrowRules$Reader" (131 : Nat) "ThrowRules$Reader" "unit" "LThrowRules$Unit;") ∈ lw_all := lw_g (lw_at lw_m1 170 rfl) rfl
theorem q263 : (Jvm.Cond.fieldLink "ThrowRules$Reader" (204 : Nat) "ThrowRules$Reader" "method" "LThrowRules$Method;") ∈ lw_all := lw_g (lw_at lw_m1 171 rfl) rfl
theorem q264 : (Jvm.Cond.fieldLink "ThrowRules$Reader" (122 : Nat) "ThrowRules$Reader" "nested" "I") ∈ lw_all := lw_g (lw_at lw_m1 172 rfl) rfl
theorem q265 : (Jvm.Cond.fieldLink "ThrowRules$Reader" (21 : Nat) "ThrowRules$Reader" "calls" "Ljava/util/ArrayList;") ∈ lw_all := lw_g (lw_at lw_m1 173 rfl) rfl
theorem q266 : (Jvm.Cond.fieldLink "ThrowRules$Reader" (25 : Nat) "ThrowRules$Reader" "callPlaces" "Ljava/util/ArrayList;") ∈ lw_all := lw_g (lw_at lw_m1 174 rfl) rfl
theorem q267 : (Jvm.Cond.fieldLink "ThrowRules$Reader" (28 : Nat) "ThrowRules$Reader" "tries" "Ljava/util/ArrayList;") ∈ lw_all := lw_g (lw_at lw_m1 175 rfl) rfl
theorem q268 : (Jvm.Cond.fieldLink "ThrowRules$Reader" (31 : Nat) "ThrowRules$Reader" "throwing" "Ljava/util/ArrayList;") ∈ lw_all := lw_g (lw_at lw_m1 176 rfl) rfl
theorem q269 : (Jvm.Cond.fieldLink "ThrowRules$Reader" (119 : Nat) "ThrowRules$Reader" "nameAt" "I") ∈ lw_all := lw_g (lw_at lw_m1 177 rfl) rfl
theorem q270 : (Jvm.Cond.fieldLink "ThrowRules$Reader" (373 : Nat) "ThrowRules$Reader" "parameter" "LThrowRules$Catch;") ∈ lw_all := lw_g (lw_at lw_m1 178 rfl) rfl
theorem q271 : (Jvm.Cond.fieldLink "ThrowRules$Reader" (377 : Nat) "ThrowRules$Reader" "isOutside" "Z") ∈ lw_all := lw_g (lw_at lw_m1 179 rfl) rfl
theorem q272 : (Jvm.Cond.fieldLink "ThrowRules$Reader" (34 : Nat) "ThrowRules$Reader" "throwPlaces" "Ljava/util/ArrayList;") ∈ lw_all := lw_g (lw_at lw_m1 180 rfl) rfl
theorem q273 : (Jvm.Cond.laysFinal "ThrowRules$Reader" "ThrowRules$Reader" "wrong" "LThrowRules$Wrong;") ∈ lw_all := lw_g (lw_at lw_m1 181 rfl) rfl
theorem q274 : (Jvm.Cond.soleField "ThrowRules$Reader" "wrong") ∈ lw_all := lw_g (lw_at lw_m1 182 rfl) rfl
theorem q275 : (Jvm.Cond.lays "ThrowRules$Reader" "ThrowRules$Reader" "text" "[B") ∈ lw_all := lw_g (lw_at lw_m1 183 rfl) rfl
theorem q276 : (Jvm.Cond.soleField "ThrowRules$Reader" "text") ∈ lw_all := lw_g (lw_at lw_m1 184 rfl) rfl
theorem q277 : (Jvm.Cond.lays "ThrowRules$Reader" "ThrowRules$Reader" "size" "I") ∈ lw_all := lw_g (lw_at lw_m1 185 rfl) rfl
theorem q278 : (Jvm.Cond.soleField "ThrowRules$Reader" "size") ∈ lw_all := lw_g (lw_at lw_m1 186 rfl) rfl
theorem q279 : (Jvm.Cond.lays "ThrowRules$Reader" "ThrowRules$Reader" "at" "I") ∈ lw_all := lw_g (lw_at lw_m1 187 rfl) rfl
theorem q280 : (Jvm.Cond.soleField "ThrowRules$Reader" "at") ∈ lw_all := lw_g (lw_at lw_m1 188 rfl) rfl
theorem q281 : (Jvm.Cond.lays "ThrowRules$Reader" "ThrowRules$Reader" "place" "I") ∈ lw_all := lw_g (lw_at lw_m1 189 rfl) rfl
theorem q282 : (Jvm.Cond.soleField "ThrowRules$Reader" "place") ∈ lw_all := lw_g (lw_at lw_m1 190 rfl) rfl
theorem q283 : (Jvm.Cond.lays "ThrowRules$Reader" "ThrowRules$Reader" "word" "Ljava/lang/String;") ∈ lw_all := lw_g (lw_at lw_m1 191 rfl) rfl
theorem q284 : (Jvm.Cond.soleField "ThrowRules$Reader" "word") ∈ lw_all := lw_g (lw_at lw_m1 192 rfl) rfl
theorem q285 : (Jvm.Cond.lays "ThrowRules$Reader" "ThrowRules$Reader" "sign" "I") ∈ lw_all := lw_g (lw_at lw_m1 193 rfl) rfl
theorem q286 : (Jvm.Cond.soleField "ThrowRules$Reader" "sign") ∈ lw_all := lw_g (lw_at lw_m1 194 rfl) rfl
theorem q287 : (Jvm.Cond.lays "ThrowRules$Reader" "ThrowRules$Reader" "unit" "LThrowRules$Unit;") ∈ lw_all := lw_g (lw_at lw_m1 195 rfl) rfl
theorem q288 : (Jvm.Cond.soleField "ThrowRules$Reader" "unit") ∈ lw_all := lw_g (lw_at lw_m1 196 rfl) rfl
theorem q289 : (Jvm.Cond.lays "ThrowRules$Reader" "ThrowRules$Reader" "method" "LThrowRules$Method;") ∈ lw_all := lw_g (lw_at lw_m1 197 rfl) rfl
theorem q290 : (Jvm.Cond.soleField "ThrowRules$Reader" "method") ∈ lw_all := lw_g (lw_at lw_m1 198 rfl) rfl
theorem q291 : (Jvm.Cond.lays "ThrowRules$Reader" "ThrowRules$Reader" "nested" "I") ∈ lw_all := lw_g (lw_at lw_m1 199 rfl) rfl
theorem q292 : (Jvm.Cond.soleField "ThrowRules$Reader" "nested") ∈ lw_all := lw_g (lw_at lw_m1 200 rfl) rfl
theorem q293 : (Jvm.Cond.laysFinal "ThrowRules$Reader" "ThrowRules$Reader" "calls" "Ljava/util/ArrayList;") ∈ lw_all := lw_g (lw_at lw_m1 201 rfl) rfl
theorem q294 : (Jvm.Cond.soleField "ThrowRules$Reader" "calls") ∈ lw_all := lw_g (lw_at lw_m1 202 rfl) rfl
theorem q295 : (Jvm.Cond.laysFinal "ThrowRules$Reader" "ThrowRules$Reader" "callPlaces" "Ljava/util/ArrayList;") ∈ lw_all := lw_g (lw_at lw_m1 203 rfl) rfl
theorem q296 : (Jvm.Cond.soleField "ThrowRules$Reader" "callPlaces") ∈ lw_all := lw_g (lw_at lw_m1 204 rfl) rfl
theorem q297 : (Jvm.Cond.laysFinal "ThrowRules$Reader" "ThrowRules$Reader" "tries" "Ljava/util/ArrayList;") ∈ lw_all := lw_g (lw_at lw_m1 205 rfl) rfl
theorem q298 : (Jvm.Cond.soleField "ThrowRules$Reader" "tries") ∈ lw_all := lw_g (lw_at lw_m1 206 rfl) rfl
theorem q299 : (Jvm.Cond.laysFinal "ThrowRules$Reader" "ThrowRules$Reader" "throwing" "Ljava/util/ArrayList;") ∈ lw_all := lw_g (lw_at lw_m1 207 rfl) rfl
theorem q300 : (Jvm.Cond.soleField "ThrowRules$Reader" "throwing") ∈ lw_all := lw_g (lw_at lw_m1 208 rfl) rfl
theorem q301 : (Jvm.Cond.lays "ThrowRules$Reader" "ThrowRules$Reader" "nameAt" "I") ∈ lw_all := lw_g (lw_at lw_m1 209 rfl) rfl
theorem q302 : (Jvm.Cond.soleField "ThrowRules$Reader" "nameAt") ∈ lw_all := lw_g (lw_at lw_m1 210 rfl) rfl
theorem q303 : (Jvm.Cond.lays "ThrowRules$Reader" "ThrowRules$Reader" "parameter" "LThrowRules$Catch;") ∈ lw_all := lw_g (lw_at lw_m1 211 rfl) rfl
theorem q304 : (Jvm.Cond.soleField "ThrowRules$Reader" "parameter") ∈ lw_all := lw_g (lw_at lw_m1 212 rfl) rfl
theorem q305 : (Jvm.Cond.lays "ThrowRules$Reader" "ThrowRules$Reader" "isOutside" "Z") ∈ lw_all := lw_g (lw_at lw_m1 213 rfl) rfl
theorem q306 : (Jvm.Cond.soleField "ThrowRules$Reader" "isOutside") ∈ lw_all := lw_g (lw_at lw_m1 214 rfl) rfl
theorem q307 : (Jvm.Cond.laysFinal "ThrowRules$Reader" "ThrowRules$Reader" "throwPlaces" "Ljava/util/ArrayList;") ∈ lw_all := lw_g (lw_at lw_m1 215 rfl) rfl
theorem q308 : (Jvm.Cond.soleField "ThrowRules$Reader" "throwPlaces") ∈ lw_all := lw_g (lw_at lw_m1 216 rfl) rfl
theorem q309 : (Jvm.Cond.superclass "ThrowRules$Reader" "java/lang/Object") ∈ lw_all := lw_g (lw_at lw_m1 217 rfl) rfl
theorem q373 : (Jvm.Cond.fieldLinkNest "ThrowRules$Reader" (489 : Nat) "ThrowRules$Kind" "number" "I" "ThrowRules") ∈ lw_tbl := lw_at lw_m2 41 rfl
theorem q434 : (Jvm.Cond.selects "ThrowRules$Reader" ({ cls := "java/lang/Object", name := "getClass", desc := "()Ljava/lang/Class;" } : Jvm.MethodName) ({ cls := "java/lang/Object", name := "getClass", desc := "()Ljava/lang/Class;" } : Jvm.MethodName)) ∈ lw_all := lw_g (lw_at lw_m2 102 rfl) rfl
theorem q493 : (Jvm.Cond.selects "ThrowRules$Reader" ({ cls := "java/lang/Object", name := "hashCode", desc := "()I" } : Jvm.MethodName) ({ cls := "java/lang/Object", name := "hashCode", desc := "()I" } : Jvm.MethodName)) ∈ lw_all := lw_g (lw_at lw_m2 161 rfl) rfl
theorem q593 : (Jvm.Cond.selects "ThrowRules$Reader" ({ cls := "java/lang/Object", name := "equals", desc := "(Ljava/lang/Object;)Z" } : Jvm.MethodName) ({ cls := "java/lang/Object", name := "equals", desc := "(Ljava/lang/Object;)Z" } : Jvm.MethodName)) ∈ lw_all := lw_g (lw_at lw_m3 21 rfl) rfl
theorem q1001 : (Jvm.Cond.fieldLinkNest "ThrowRules$Reader" (171 : Nat) "ThrowRules$Unit" "kinds" "Ljava/util/ArrayList;" "ThrowRules") ∈ lw_tbl := lw_at lw_m4 189 rfl
theorem q1003 : (Jvm.Cond.fieldLinkNest "ThrowRules$Reader" (155 : Nat) "ThrowRules$Unit" "kindOf" "Ljava/util/HashMap;" "ThrowRules") ∈ lw_tbl := lw_at lw_m4 191 rfl
theorem q1007 : (Jvm.Cond.fieldLinkNest "ThrowRules$Reader" (141 : Nat) "ThrowRules$Unit" "methods" "Ljava/util/ArrayList;" "ThrowRules") ∈ lw_tbl := lw_at lw_m4 195 rfl
theorem q1010 : (Jvm.Cond.fieldLinkNest "ThrowRules$Reader" (208 : Nat) "ThrowRules$Unit" "methodOf" "Ljava/util/HashMap;" "ThrowRules") ∈ lw_tbl := lw_at lw_m4 198 rfl
theorem q1013 : (Jvm.Cond.fieldLinkNest "ThrowRules$Reader" (271 : Nat) "ThrowRules$Unit" "statements" "Ljava/util/ArrayList;" "ThrowRules") ∈ lw_tbl := lw_at lw_m4 201 rfl
theorem q1100 : (Jvm.Cond.instanceMethod ({ cls := "ThrowRules$Reader", name := "read", desc := "([BI)LThrowRules$Unit;" } : Jvm.MethodName)) ∈ lw_all := lw_g (lw_at lw_m5 48 rfl) rfl
theorem q1101 : (Jvm.Cond.selects "ThrowRules$Reader" ({ cls := "ThrowRules$Reader", name := "read", desc := "([BI)LThrowRules$Unit;" } : Jvm.MethodName) ({ cls := "ThrowRules$Reader", name := "read", desc := "([BI)LThrowRules$Unit;" } : Jvm.MethodName)) ∈ lw_all := lw_g (lw_at lw_m5 49 rfl) rfl
theorem q1102 : (Jvm.Cond.code ({ cls := "ThrowRules$Reader", name := "read", desc := "([BI)LThrowRules$Unit;" } : Jvm.MethodName) prog_15_method_11_code (3 : Nat) (Option.some (Jvm.ClassFile.FieldType.object "ThrowRules$Unit"))) ∈ lw_all := lw_g (lw_at lw_m5 50 rfl) rfl
theorem q1103 : (Jvm.Cond.methodLink "ThrowRules$Reader" (125 : Nat) ({ cls := "java/util/ArrayList", name := "clear", desc := "()V" } : Jvm.MethodName)) ∈ lw_all := lw_g (lw_at lw_m5 51 rfl) rfl
theorem q1107 : (Jvm.Cond.classLink "ThrowRules$Reader" (128 : Nat) "ThrowRules$Unit") ∈ lw_all := lw_g (lw_at lw_m5 55 rfl) rfl
theorem q1108 : (Jvm.Cond.methodLink "ThrowRules$Reader" (130 : Nat) ({ cls := "ThrowRules$Unit", name := "<init>", desc := "()V" } : Jvm.MethodName)) ∈ lw_all := lw_g (lw_at lw_m5 56 rfl) rfl
theorem q1109 : (Jvm.Cond.methodLink "ThrowRules$Reader" (108 : Nat) ({ cls := "ThrowRules$Reader", name := "next", desc := "()V" } : Jvm.MethodName)) ∈ lw_all := lw_g (lw_at lw_m5 57 rfl) rfl
theorem q1110 : (Jvm.Cond.privateMethod ({ cls := "ThrowRules$Reader", name := "next", desc := "()V" } : Jvm.MethodName)) ∈ lw_tbl := lw_at lw_m5 58 rfl
theorem q1111 : (Jvm.Cond.instanceMethod ({ cls := "ThrowRules$Reader", name := "next", desc := "()V" } : Jvm.MethodName)) ∈ lw_all := lw_g (lw_at lw_m5 59 rfl) rfl
theorem q1112 : (Jvm.Cond.code ({ cls := "ThrowRules$Reader", name := "next", desc := "()V" } : Jvm.MethodName) prog_15_method_4_code (4 : Nat) (Option.none : Option Jvm.ClassFile.FieldType)) ∈ lw_all := lw_g (lw_at lw_m5 60 rfl) rfl
theorem q1113 : (Jvm.Cond.methodLink "ThrowRules$Reader" (59 : Nat) ({ cls := "ThrowRules$Reader", name := "isLetter", desc := "(I)Z" } : Jvm.MethodName)) ∈ lw_all := lw_g (lw_at lw_m5 61 rfl) rfl
theorem q1114 : (Jvm.Cond.static ({ cls := "ThrowRules$Reader", name := "isLetter", desc := "(I)Z" } : Jvm.MethodName)) ∈ lw_all := lw_g (lw_at lw_m5 62 rfl) rfl
theorem q1115 : (Jvm.Cond.code ({ cls := "ThrowRules$Reader", name := "isLetter", desc := "(I)Z" } : Jvm.MethodName) prog_15_method_3_code (1 : Nat) (Option.some Jvm.ClassFile.FieldType.boolean)) ∈ lw_all := lw_g (lw_at lw_m5 63 rfl) rfl
theorem q1116 : (Jvm.Cond.methodLink "ThrowRules$Reader" (63 : Nat) ({ cls := "ThrowRules$Reader", name := "wrongAt", desc := "(I)LThrowRules$Wrong;" } : Jvm.MethodName)) ∈ lw_all := lw_g (lw_at lw_m5 64 rfl) rfl
theorem q1117 : (Jvm.Cond.privateMethod ({ cls := "ThrowRules$Reader", name := "wrongAt", desc := "(I)LThrowRules$Wrong;" } : Jvm.MethodName)) ∈ lw_tbl := lw_at lw_m5 65 rfl
theorem q1118 : (Jvm.Cond.instanceMethod ({ cls := "ThrowRules$Reader", name := "wrongAt", desc := "(I)LThrowRules$Wrong;" } : Jvm.MethodName)) ∈ lw_all := lw_g (lw_at lw_m5 66 rfl) rfl
theorem q1119 : (Jvm.Cond.code ({ cls := "ThrowRules$Reader", name := "wrongAt", desc := "(I)LThrowRules$Wrong;" } : Jvm.MethodName) prog_15_method_2_code (2 : Nat) (Option.some (Jvm.ClassFile.FieldType.object "ThrowRules$Wrong"))) ∈ lw_all := lw_g (lw_at lw_m5 67 rfl) rfl
theorem q1120 : (Jvm.Cond.classLink "ThrowRules$Reader" (67 : Nat) "java/lang/StringBuilder") ∈ lw_all := lw_g (lw_at lw_m5 68 rfl) rfl
theorem q1122 : (Jvm.Cond.methodLink "ThrowRules$Reader" (69 : Nat) ({ cls := "java/lang/StringBuilder", name := "<init>", desc := "(I)V" } : Jvm.MethodName)) ∈ lw_all := lw_g (lw_at lw_m5 70 rfl) rfl
theorem q1148 : (Jvm.Cond.methodLink "ThrowRules$Reader" (72 : Nat) ({ cls := "java/lang/StringBuilder", name := "append", desc := "(C)Ljava/lang/StringBuilder;" } : Jvm.MethodName)) ∈ lw_all := lw_g (lw_at lw_m5 96 rfl) rfl
theorem q1212 : (Jvm.Cond.methodLink "ThrowRules$Reader" (76 : Nat) ({ cls := "java/lang/StringBuilder", name := "toString", desc := "()Ljava/lang/String;" } : Jvm.MethodName)) ∈ lw_all := lw_g (lw_at lw_m5 160 rfl) rfl
theorem q1271 : (Jvm.Cond.stringRef "ThrowRules$Reader" (80 : Nat) "{}();,|") ∈ lw_tbl := lw_at lw_m5 219 rfl
theorem q1272 : (Jvm.Cond.methodLink "ThrowRules$Reader" (82 : Nat) ({ cls := "java/lang/String", name := "indexOf", desc := "(I)I" } : Jvm.MethodName)) ∈ lw_all := lw_g (lw_at lw_m5 220 rfl) rfl
theorem q1325 : (Jvm.Cond.stringRef "ThrowRules$Reader" (135 : Nat) "kind") ∈ lw_tbl := lw_at lw_m6 33 rfl
theorem q1326 : (Jvm.Cond.methodLink "ThrowRules$Reader" (111 : Nat) ({ cls := "ThrowRules$Reader", name := "isWord", desc := "(Ljava/lang/String;)Z" } : Jvm.MethodName)) ∈ lw_all := lw_g (lw_at lw_m6 34 rfl) rfl
theorem q1327 : (Jvm.Cond.privateMethod ({ cls := "ThrowRules$Reader", name := "isWord", desc := "(Ljava/lang/String;)Z" } : Jvm.MethodName)) ∈ lw_tbl := lw_at lw_m6 35 rfl
theorem q1328 : (Jvm.Cond.instanceMethod ({ cls := "ThrowRules$Reader", name := "isWord", desc := "(Ljava/lang/String;)Z" } : Jvm.MethodName)) ∈ lw_all := lw_g (lw_at lw_m6 36 rfl) rfl
theorem q1329 : (Jvm.Cond.code ({ cls := "ThrowRules$Reader", name := "isWord", desc := "(Ljava/lang/String;)Z" } : Jvm.MethodName) prog_15_method_6_code (2 : Nat) (Option.some Jvm.ClassFile.FieldType.boolean)) ∈ lw_all := lw_g (lw_at lw_m6 37 rfl) rfl
theorem q1330 : (Jvm.Cond.methodLink "ThrowRules$Reader" (100 : Nat) ({ cls := "java/lang/String", name := "equals", desc := "(Ljava/lang/Object;)Z" } : Jvm.MethodName)) ∈ lw_all := lw_g (lw_at lw_m6 38 rfl) rfl
theorem q1331 : (Jvm.Cond.methodLink "ThrowRules$Reader" (137 : Nat) ({ cls := "ThrowRules$Reader", name := "kind", desc := "()V" } : Jvm.MethodName)) ∈ lw_all := lw_g (lw_at lw_m6 39 rfl) rfl
theorem q1332 : (Jvm.Cond.privateMethod ({ cls := "ThrowRules$Reader", name := "kind", desc := "()V" } : Jvm.MethodName)) ∈ lw_tbl := lw_at lw_m6 40 rfl
theorem q1333 : (Jvm.Cond.instanceMethod ({ cls := "ThrowRules$Reader", name := "kind", desc := "()V" } : Jvm.MethodName)) ∈ lw_all := lw_g (lw_at lw_m6 41 rfl) rfl
theorem q1334 : (Jvm.Cond.code ({ cls := "ThrowRules$Reader", name := "kind", desc := "()V" } : Jvm.MethodName) prog_15_method_13_code (6 : Nat) (Option.none : Option Jvm.ClassFile.FieldType)) ∈ lw_all := lw_g (lw_at lw_m6 42 rfl) rfl
theorem q1335 : (Jvm.Cond.methodLink "ThrowRules$Reader" (144 : Nat) ({ cls := "java/util/ArrayList", name := "size", desc := "()I" } : Jvm.MethodName)) ∈ lw_all := lw_g (lw_at lw_m6 43 rfl) rfl
theorem q1336 : (Jvm.Cond.methodLink "ThrowRules$Reader" (104 : Nat) ({ cls := "ThrowRules$Reader", name := "need", desc := "(Z)V" } : Jvm.MethodName)) ∈ lw_all := lw_g (lw_at lw_m6 44 rfl) rfl
theorem q1337 : (Jvm.Cond.privateMethod ({ cls := "ThrowRules$Reader", name := "need", desc := "(Z)V" } : Jvm.MethodName)) ∈ lw_tbl := lw_at lw_m6 45 rfl
theorem q1338 : (Jvm.Cond.instanceMethod ({ cls := "ThrowRules$Reader", name := "need", desc := "(Z)V" } : Jvm.MethodName)) ∈ lw_all := lw_g (lw_at lw_m6 46 rfl) rfl
theorem q1339 : (Jvm.Cond.code ({ cls := "ThrowRules$Reader", name := "need", desc := "(Z)V" } : Jvm.MethodName) prog_15_method_7_code (2 : Nat) (Option.none : Option Jvm.ClassFile.FieldType)) ∈ lw_all := lw_g (lw_at lw_m6 47 rfl) rfl
theorem q1340 : (Jvm.Cond.methodLink "ThrowRules$Reader" (174 : Nat) ({ cls := "ThrowRules$Reader", name := "name", desc := "()Ljava/lang/String;" } : Jvm.MethodName)) ∈ lw_all := lw_g (lw_at lw_m6 48 rfl) rfl
theorem q1341 : (Jvm.Cond.privateMethod ({ cls := "ThrowRules$Reader", name := "name", desc := "()Ljava/lang/String;" } : Jvm.MethodName)) ∈ lw_tbl := lw_at lw_m6 49 rfl
theorem q1342 : (Jvm.Cond.instanceMethod ({ cls := "ThrowRules$Reader", name := "name", desc := "()Ljava/lang/String;" } : Jvm.MethodName)) ∈ lw_all := lw_g (lw_at lw_m6 50 rfl) rfl
theorem q1343 : (Jvm.Cond.code ({ cls := "ThrowRules$Reader", name := "name", desc := "()Ljava/lang/String;" } : Jvm.MethodName) prog_15_method_10_code (2 : Nat) (Option.some (Jvm.ClassFile.FieldType.object "java/lang/String"))) ∈ lw_all := lw_g (lw_at lw_m6 51 rfl) rfl
theorem q1344 : (Jvm.Cond.methodLink "ThrowRules$Reader" (115 : Nat) ({ cls := "ThrowRules$Reader", name := "isKey", desc := "()Z" } : Jvm.MethodName)) ∈ lw_all := lw_g (lw_at lw_m6 52 rfl) rfl
theorem q1345 : (Jvm.Cond.privateMethod ({ cls := "ThrowRules$Reader", name := "isKey", desc := "()Z" } : Jvm.MethodName)) ∈ lw_tbl := lw_at lw_m6 53 rfl
theorem q1346 : (Jvm.Cond.instanceMethod ({ cls := "ThrowRules$Reader", name := "isKey", desc := "()Z" } : Jvm.MethodName)) ∈ lw_all := lw_g (lw_at lw_m6 54 rfl) rfl
theorem q1347 : (Jvm.Cond.code ({ cls := "ThrowRules$Reader", name := "isKey", desc := "()Z" } : Jvm.MethodName) prog_15_method_5_code (1 : Nat) (Option.some Jvm.ClassFile.FieldType.boolean)) ∈ lw_all := lw_g (lw_at lw_m6 55 rfl) rfl
theorem q1348 : (Jvm.Cond.stringRef "ThrowRules$Reader" (88 : Nat) " kind below way over free throws do call throw set if else while loop break return try catch finally run ") ∈ lw_tbl := lw_at lw_m6 56 rfl
theorem q1349 : (Jvm.Cond.methodLink "ThrowRules$Reader" (90 : Nat) ({ cls := "java/lang/StringBuilder", name := "<init>", desc := "()V" } : Jvm.MethodName)) ∈ lw_all := lw_g (lw_at lw_m6 57 rfl) rfl
theorem q1352 : (Jvm.Cond.stringRef "ThrowRules$Reader" (91 : Nat) " ") ∈ lw_tbl := lw_at lw_m6 60 rfl
theorem q1353 : (Jvm.Cond.methodLink "ThrowRules$Reader" (93 : Nat) ({ cls := "java/lang/StringBuilder", name := "append", desc := "(Ljava/lang/String;)Ljava/lang/StringBuilder;" } : Jvm.MethodName)) ∈ lw_all := lw_g (lw_at lw_m6 61 rfl) rfl
theorem q1383 : (Jvm.Cond.methodLink "ThrowRules$Reader" (96 : Nat) ({ cls := "java/lang/String", name := "contains", desc := "(Ljava/lang/CharSequence;)Z" } : Jvm.MethodName)) ∈ lw_all := lw_g (lw_at lw_m6 91 rfl) rfl
theorem q1423 : (Jvm.Cond.stringRef "ThrowRules$Reader" (177 : Nat) "below") ∈ lw_tbl := lw_at lw_m6 131 rfl
theorem q1424 : (Jvm.Cond.methodLink "ThrowRules$Reader" (179 : Nat) ({ cls := "ThrowRules$Reader", name := "want", desc := "(Ljava/lang/String;)V" } : Jvm.MethodName)) ∈ lw_all := lw_g (lw_at lw_m6 132 rfl) rfl
theorem q1425 : (Jvm.Cond.privateMethod ({ cls := "ThrowRules$Reader", name := "want", desc := "(Ljava/lang/String;)V" } : Jvm.MethodName)) ∈ lw_tbl := lw_at lw_m6 133 rfl
theorem q1426 : (Jvm.Cond.instanceMethod ({ cls := "ThrowRules$Reader", name := "want", desc := "(Ljava/lang/String;)V" } : Jvm.MethodName)) ∈ lw_all := lw_g (lw_at lw_m6 134 rfl) rfl
theorem q1427 : (Jvm.Cond.code ({ cls := "ThrowRules$Reader", name := "want", desc := "(Ljava/lang/String;)V" } : Jvm.MethodName) prog_15_method_9_code (2 : Nat) (Option.none : Option Jvm.ClassFile.FieldType)) ∈ lw_all := lw_g (lw_at lw_m6 135 rfl) rfl
theorem q1428 : (Jvm.Cond.methodLink "ThrowRules$Reader" (183 : Nat) ({ cls := "ThrowRules$Reader", name := "want", desc := "(I)V" } : Jvm.MethodName)) ∈ lw_all := lw_g (lw_at lw_m6 136 rfl) rfl
theorem q1429 : (Jvm.Cond.privateMethod ({ cls := "ThrowRules$Reader", name := "want", desc := "(I)V" } : Jvm.MethodName)) ∈ lw_tbl := lw_at lw_m6 137 rfl
theorem q1430 : (Jvm.Cond.instanceMethod ({ cls := "ThrowRules$Reader", name := "want", desc := "(I)V" } : Jvm.MethodName)) ∈ lw_all := lw_g (lw_at lw_m6 138 rfl) rfl
theorem q1431 : (Jvm.Cond.code ({ cls := "ThrowRules$Reader", name := "want", desc := "(I)V" } : Jvm.MethodName) prog_15_method_8_code (2 : Nat) (Option.none : Option Jvm.ClassFile.FieldType)) ∈ lw_all := lw_g (lw_at lw_m6 139 rfl) rfl
theorem q1432 : (Jvm.Cond.methodLink "ThrowRules$Reader" (185 : Nat) ({ cls := "ThrowRules$Reader", name := "known", desc := "(Ljava/lang/String;I)LThrowRules$Kind;" } : Jvm.MethodName)) ∈ lw_all := lw_g (lw_at lw_m6 140 rfl) rfl
theorem q1433 : (Jvm.Cond.privateMethod ({ cls := "ThrowRules$Reader", name := "known", desc := "(Ljava/lang/String;I)LThrowRules$Kind;" } : Jvm.MethodName)) ∈ lw_tbl := lw_at lw_m6 141 rfl
theorem q1434 : (Jvm.Cond.instanceMethod ({ cls := "ThrowRules$Reader", name := "known", desc := "(Ljava/lang/String;I)LThrowRules$Kind;" } : Jvm.MethodName)) ∈ lw_all := lw_g (lw_at lw_m6 142 rfl) rfl
theorem q1435 : (Jvm.Cond.code ({ cls := "ThrowRules$Reader", name := "known", desc := "(Ljava/lang/String;I)LThrowRules$Kind;" } : Jvm.MethodName) prog_15_method_12_code (4 : Nat) (Option.some (Jvm.ClassFile.FieldType.object "ThrowRules$Kind"))) ∈ lw_all := lw_g (lw_at lw_m6 143 rfl) rfl
theorem q1436 : (Jvm.Cond.methodLink "ThrowRules$Reader" (159 : Nat) ({ cls := "java/util/HashMap", name := "get", desc := "(Ljava/lang/Object;)Ljava/lang/Object;" } : Jvm.MethodName)) ∈ lw_all := lw_g (lw_at lw_m6 144 rfl) rfl
theorem q1440 : (Jvm.Cond.classLink "ThrowRules$Reader" (165 : Nat) "ThrowRules$Kind") ∈ lw_all := lw_g (lw_at lw_m6 148 rfl) rfl
theorem q1441 : (Jvm.Cond.methodLink "ThrowRules$Reader" (167 : Nat) ({ cls := "ThrowRules$Unit", name := "mistake", desc := "(III)V" } : Jvm.MethodName)) ∈ lw_all := lw_g (lw_at lw_m6 149 rfl) rfl
theorem q1492 : (Jvm.Cond.methodLink "ThrowRules$Reader" (189 : Nat) ({ cls := "java/util/HashMap", name := "containsKey", desc := "(Ljava/lang/Object;)Z" } : Jvm.MethodName)) ∈ lw_all := lw_g (lw_at lw_m6 200 rfl) rfl
theorem q1493 : (Jvm.Cond.methodLink "ThrowRules$Reader" (192 : Nat) ({ cls := "java/util/ArrayList", name := "get", desc := "(I)Ljava/lang/Object;" } : Jvm.MethodName)) ∈ lw_all := lw_g (lw_at lw_m6 201 rfl) rfl
theorem q1494 : (Jvm.Cond.methodLink "ThrowRules$Reader" (195 : Nat) ({ cls := "ThrowRules$Unit", name := "add", desc := "(Ljava/lang/String;LThrowRules$Kind;I)LThrowRules$Kind;" } : Jvm.MethodName)) ∈ lw_all := lw_g (lw_at lw_m6 202 rfl) rfl
theorem q1495 : (Jvm.Cond.stringRef "ThrowRules$Reader" (139 : Nat) "way") ∈ lw_tbl := lw_at lw_m6 203 rfl
theorem q1496 : (Jvm.Cond.methodLink "ThrowRules$Reader" (147 : Nat) ({ cls := "ThrowRules$Reader", name := "way", desc := "()V" } : Jvm.MethodName)) ∈ lw_all := lw_g (lw_at lw_m6 204 rfl) rfl
theorem q1497 : (Jvm.Cond.privateMethod ({ cls := "ThrowRules$Reader", name := "way", desc := "()V" } : Jvm.MethodName)) ∈ lw_tbl := lw_at lw_m6 205 rfl
theorem q1498 : (Jvm.Cond.instanceMethod ({ cls := "ThrowRules$Reader", name := "way", desc := "()V" } : Jvm.MethodName)) ∈ lw_all := lw_g (lw_at lw_m6 206 rfl) rfl
theorem q1499 : (Jvm.Cond.code ({ cls := "ThrowRules$Reader", name := "way", desc := "()V" } : Jvm.MethodName) prog_15_method_14_code (4 : Nat) (Option.none : Option Jvm.ClassFile.FieldType)) ∈ lw_all := lw_g (lw_at lw_m6 207 rfl) rfl
theorem q1500 : (Jvm.Cond.classLink "ThrowRules$Reader" (199 : Nat) "ThrowRules$Method") ∈ lw_all := lw_g (lw_at lw_m6 208 rfl) rfl
theorem q1502 : (Jvm.Cond.methodLink "ThrowRules$Reader" (201 : Nat) ({ cls := "ThrowRules$Method", name := "<init>", desc := "(Ljava/lang/String;II)V" } : Jvm.MethodName)) ∈ lw_all := lw_g (lw_at lw_m6 210 rfl) rfl
theorem q1517 : (Jvm.Cond.fieldLinkNest "ThrowRules$Reader" (475 : Nat) "ThrowRules$Method" "place" "I" "ThrowRules") ∈ lw_tbl := lw_at lw_m6 225 rfl
theorem q1520 : (Jvm.Cond.fieldLinkNest "ThrowRules$Reader" (226 : Nat) "ThrowRules$Method" "isFree" "Z" "ThrowRules") ∈ lw_tbl := lw_at lw_m6 228 rfl
theorem q1521 : (Jvm.Cond.fieldLinkNest "ThrowRules$Reader" (219 : Nat) "ThrowRules$Method" "over" "Ljava/lang/String;" "ThrowRules") ∈ lw_tbl := lw_at lw_m6 229 rfl
theorem q1522 : (Jvm.Cond.fieldLinkNest "ThrowRules$Reader" (221 : Nat) "ThrowRules$Method" "overPlace" "I" "ThrowRules") ∈ lw_tbl := lw_at lw_m6 230 rfl
theorem q1524 : (Jvm.Cond.fieldLinkNest "ThrowRules$Reader" (462 : Nat) "ThrowRules$Method" "overs" "LThrowRules$Method;" "ThrowRules") ∈ lw_tbl := lw_at lw_m6 232 rfl
theorem q1530 : (Jvm.Cond.fieldLinkNest "ThrowRules$Reader" (234 : Nat) "ThrowRules$Method" "told" "Ljava/util/ArrayList;" "ThrowRules") ∈ lw_tbl := lw_at lw_m6 238 rfl
theorem q1532 : (Jvm.Cond.fieldLinkNest "ThrowRules$Reader" (246 : Nat) "ThrowRules$Method" "body" "LThrowRules$Block;" "ThrowRules") ∈ lw_tbl := lw_at lw_m7 0 rfl
theorem q1552 : (Jvm.Cond.methodLink "ThrowRules$Reader" (211 : Nat) ({ cls := "java/util/ArrayList", name := "add", desc := "(Ljava/lang/Object;)Z" } : Jvm.MethodName)) ∈ lw_all := lw_g (lw_at lw_m7 20 rfl) rfl
theorem q1553 : (Jvm.Cond.methodLink "ThrowRules$Reader" (213 : Nat) ({ cls := "java/util/HashMap", name := "put", desc := "(Ljava/lang/Object;Ljava/lang/Object;)Ljava/lang/Object;" } : Jvm.MethodName)) ∈ lw_all := lw_g (lw_at lw_m7 21 rfl) rfl
theorem q1554 : (Jvm.Cond.stringRef "ThrowRules$Reader" (217 : Nat) "over") ∈ lw_tbl := lw_at lw_m7 22 rfl
theorem q1555 : (Jvm.Cond.stringRef "ThrowRules$Reader" (224 : Nat) "free") ∈ lw_tbl := lw_at lw_m7 23 rfl
theorem q1556 : (Jvm.Cond.methodLink "ThrowRules$Reader" (230 : Nat) ({ cls := "ThrowRules$Reader", name := "throwsList", desc := "()Ljava/util/ArrayList;" } : Jvm.MethodName)) ∈ lw_all := lw_g (lw_at lw_m7 24 rfl) rfl
theorem q1557 : (Jvm.Cond.privateMethod ({ cls := "ThrowRules$Reader", name := "throwsList", desc := "()Ljava/util/ArrayList;" } : Jvm.MethodName)) ∈ lw_tbl := lw_at lw_m7 25 rfl
theorem q1558 : (Jvm.Cond.instanceMethod ({ cls := "ThrowRules$Reader", name := "throwsList", desc := "()Ljava/util/ArrayList;" } : Jvm.MethodName)) ∈ lw_all := lw_g (lw_at lw_m7 26 rfl) rfl
theorem q1559 : (Jvm.Cond.code ({ cls := "ThrowRules$Reader", name := "throwsList", desc := "()Ljava/util/ArrayList;" } : Jvm.MethodName) prog_15_method_15_code (3 : Nat) (Option.some (Jvm.ClassFile.FieldType.object "java/util/ArrayList"))) ∈ lw_all := lw_g (lw_at lw_m7 27 rfl) rfl
theorem q1560 : (Jvm.Cond.methodLink "ThrowRules$Reader" (250 : Nat) ({ cls := "java/util/ArrayList", name := "<init>", desc := "(I)V" } : Jvm.MethodName)) ∈ lw_all := lw_g (lw_at lw_m7 28 rfl) rfl
theorem q1561 : (Jvm.Cond.stringRef "ThrowRules$Reader" (251 : Nat) "throws") ∈ lw_tbl := lw_at lw_m7 29 rfl
theorem q1562 : (Jvm.Cond.classLink "ThrowRules$Reader" (253 : Nat) "ThrowRules$Named") ∈ lw_all := lw_g (lw_at lw_m7 30 rfl) rfl
theorem q1564 : (Jvm.Cond.methodLinkNest "ThrowRules$Reader" (255 : Nat) ({ cls := "ThrowRules$Named", name := "<init>", desc := "(LThrowRules$Kind;I)V" } : Jvm.MethodName) "ThrowRules") ∈ lw_tbl := lw_at lw_m7 32 rfl
theorem q1573 : (Jvm.Cond.fieldLinkNest "ThrowRules$Reader" (479 : Nat) "ThrowRules$Named" "kind" "LThrowRules$Kind;" "ThrowRules") ∈ lw_tbl := lw_at lw_m7 41 rfl
theorem q1576 : (Jvm.Cond.fieldLinkNest "ThrowRules$Reader" (488 : Nat) "ThrowRules$Named" "place" "I" "ThrowRules") ∈ lw_tbl := lw_at lw_m7 44 rfl
theorem q1582 : (Jvm.Cond.classLink "ThrowRules$Reader" (237 : Nat) "ThrowRules$Around") ∈ lw_all := lw_g (lw_at lw_m7 50 rfl) rfl
theorem q1584 : (Jvm.Cond.methodLink "ThrowRules$Reader" (239 : Nat) ({ cls := "ThrowRules$Around", name := "<init>", desc := "(LThrowRules$Around;)V" } : Jvm.MethodName)) ∈ lw_all := lw_g (lw_at lw_m7 52 rfl) rfl
theorem q1589 : (Jvm.Cond.fieldLinkNest "ThrowRules$Reader" (385 : Nat) "ThrowRules$Around" "outer" "LThrowRules$Around;" "ThrowRules") ∈ lw_tbl := lw_at lw_m7 57 rfl
theorem q1590 : (Jvm.Cond.fieldLinkNest "ThrowRules$Reader" (318 : Nat) "ThrowRules$Around" "loop" "LThrowRules$Loop;" "ThrowRules") ∈ lw_tbl := lw_at lw_m7 58 rfl
theorem q1591 : (Jvm.Cond.fieldLinkNest "ThrowRules$Reader" (380 : Nat) "ThrowRules$Around" "parameter" "LThrowRules$Catch;" "ThrowRules") ∈ lw_tbl := lw_at lw_m7 59 rfl
theorem q1592 : (Jvm.Cond.fieldLinkNest "ThrowRules$Reader" (337 : Nat) "ThrowRules$Around" "lambda" "Z" "ThrowRules") ∈ lw_tbl := lw_at lw_m7 60 rfl
theorem q1593 : (Jvm.Cond.fieldLinkNest "ThrowRules$Reader" (415 : Nat) "ThrowRules$Around" "held" "LThrowRules$Try;" "ThrowRules") ∈ lw_tbl := lw_at lw_m7 61 rfl
theorem q1605 : (Jvm.Cond.methodLink "ThrowRules$Reader" (242 : Nat) ({ cls := "ThrowRules$Reader", name := "block", desc := "(LThrowRules$Around;)LThrowRules$Block;" } : Jvm.MethodName)) ∈ lw_all := lw_g (lw_at lw_m7 73 rfl) rfl
theorem q1606 : (Jvm.Cond.privateMethod ({ cls := "ThrowRules$Reader", name := "block", desc := "(LThrowRules$Around;)LThrowRules$Block;" } : Jvm.MethodName)) ∈ lw_tbl := lw_at lw_m7 74 rfl
theorem q1607 : (Jvm.Cond.instanceMethod ({ cls := "ThrowRules$Reader", name := "block", desc := "(LThrowRules$Around;)LThrowRules$Block;" } : Jvm.MethodName)) ∈ lw_all := lw_g (lw_at lw_m7 75 rfl) rfl
theorem q1608 : (Jvm.Cond.code ({ cls := "ThrowRules$Reader", name := "block", desc := "(LThrowRules$Around;)LThrowRules$Block;" } : Jvm.MethodName) prog_15_method_16_code (3 : Nat) (Option.some (Jvm.ClassFile.FieldType.object "ThrowRules$Block"))) ∈ lw_all := lw_g (lw_at lw_m7 76 rfl) rfl
theorem q1609 : (Jvm.Cond.classLink "ThrowRules$Reader" (258 : Nat) "ThrowRules$Block") ∈ lw_all := lw_g (lw_at lw_m7 77 rfl) rfl
theorem q1611 : (Jvm.Cond.methodLinkNest "ThrowRules$Reader" (260 : Nat) ({ cls := "ThrowRules$Block", name := "<init>", desc := "()V" } : Jvm.MethodName) "ThrowRules") ∈ lw_tbl := lw_at lw_m7 79 rfl
theorem q1618 : (Jvm.Cond.fieldLinkNest "ThrowRules$Reader" (262 : Nat) "ThrowRules$Block" "rows" "Ljava/util/ArrayList;" "ThrowRules") ∈ lw_tbl := lw_at lw_m7 86 rfl
theorem q1620 : (Jvm.Cond.fieldLinkNest "ThrowRules$Reader" (261 : Nat) "ThrowRules$Block" "place" "I" "ThrowRules") ∈ lw_tbl := lw_at lw_m7 88 rfl
theorem q1629 : (Jvm.Cond.fieldLinkNest "ThrowRules$Reader" (468 : Nat) "ThrowRules$Block" "sum" "I" "ThrowRules") ∈ lw_tbl := lw_at lw_m7 97 rfl
theorem q1645 : (Jvm.Cond.methodLink "ThrowRules$Reader" (265 : Nat) ({ cls := "ThrowRules$Reader", name := "statement", desc := "(LThrowRules$Around;)LThrowRules$Statement;" } : Jvm.MethodName)) ∈ lw_all := lw_g (lw_at lw_m7 113 rfl) rfl
theorem q1646 : (Jvm.Cond.privateMethod ({ cls := "ThrowRules$Reader", name := "statement", desc := "(LThrowRules$Around;)LThrowRules$Statement;" } : Jvm.MethodName)) ∈ lw_tbl := lw_at lw_m7 114 rfl
theorem q1647 : (Jvm.Cond.instanceMethod ({ cls := "ThrowRules$Reader", name := "statement", desc := "(LThrowRules$Around;)LThrowRules$Statement;" } : Jvm.MethodName)) ∈ lw_all := lw_g (lw_at lw_m7 115 rfl) rfl
theorem q1648 : (Jvm.Cond.code ({ cls := "ThrowRules$Reader", name := "statement", desc := "(LThrowRules$Around;)LThrowRules$Statement;" } : Jvm.MethodName) prog_15_method_17_code (13 : Nat) (Option.some (Jvm.ClassFile.FieldType.object "ThrowRules$Statement"))) ∈ lw_all := lw_g (lw_at lw_m7 116 rfl) rfl
theorem q1649 : (Jvm.Cond.stringRef "ThrowRules$Reader" (269 : Nat) " do call throw set if while loop break return try run ") ∈ lw_tbl := lw_at lw_m7 117 rfl
theorem q1650 : (Jvm.Cond.methodLink "ThrowRules$Reader" (274 : Nat) ({ cls := "ThrowRules$Reader", name := "made", desc := "()LThrowRules$Statement;" } : Jvm.MethodName)) ∈ lw_all := lw_g (lw_at lw_m7 118 rfl) rfl
theorem q1651 : (Jvm.Cond.privateMethod ({ cls := "ThrowRules$Reader", name := "made", desc := "()LThrowRules$Statement;" } : Jvm.MethodName)) ∈ lw_tbl := lw_at lw_m7 119 rfl
theorem q1652 : (Jvm.Cond.instanceMethod ({ cls := "ThrowRules$Reader", name := "made", desc := "()LThrowRules$Statement;" } : Jvm.MethodName)) ∈ lw_all := lw_g (lw_at lw_m7 120 rfl) rfl
theorem q1653 : (Jvm.Cond.code ({ cls := "ThrowRules$Reader", name := "made", desc := "()LThrowRules$Statement;" } : Jvm.MethodName) prog_15_method_18_code (3 : Nat) (Option.some (Jvm.ClassFile.FieldType.object "ThrowRules$Statement"))) ∈ lw_all := lw_g (lw_at lw_m7 121 rfl) rfl
theorem q1654 : (Jvm.Cond.classLink "ThrowRules$Reader" (285 : Nat) "ThrowRules$Group") ∈ lw_all := lw_g (lw_at lw_m7 122 rfl) rfl
theorem q1656 : (Jvm.Cond.methodLinkNest "ThrowRules$Reader" (342 : Nat) ({ cls := "ThrowRules$Group", name := "<init>", desc := "()V" } : Jvm.MethodName) "ThrowRules") ∈ lw_tbl := lw_at lw_m7 124 rfl
theorem q1664 : (Jvm.Cond.fieldLinkNest "ThrowRules$Reader" (287 : Nat) "ThrowRules$Group" "body" "LThrowRules$Block;" "ThrowRules") ∈ lw_tbl := lw_at lw_m7 132 rfl
theorem q1665 : (Jvm.Cond.fieldLink "ThrowRules$Reader" (278 : Nat) "ThrowRules$Statement" "number" "I") ∈ lw_all := lw_g (lw_at lw_m7 133 rfl) rfl
theorem q1672 : (Jvm.Cond.fieldLink "ThrowRules$Reader" (283 : Nat) "ThrowRules$Statement" "place" "I") ∈ lw_all := lw_g (lw_at lw_m7 140 rfl) rfl
theorem q1674 : (Jvm.Cond.fieldLink "ThrowRules$Reader" (284 : Nat) "ThrowRules$Statement" "method" "LThrowRules$Method;") ∈ lw_all := lw_g (lw_at lw_m7 142 rfl) rfl
theorem q1694 : (Jvm.Cond.methodLink "ThrowRules$Reader" (343 : Nat) ({ cls := "java/lang/String", name := "hashCode", desc := "()I" } : Jvm.MethodName)) ∈ lw_all := lw_g (lw_at lw_m7 162 rfl) rfl
theorem q1695 : (Jvm.Cond.stringRef "ThrowRules$Reader" (346 : Nat) "do") ∈ lw_tbl := lw_at lw_m7 163 rfl
theorem q1696 : (Jvm.Cond.stringRef "ThrowRules$Reader" (348 : Nat) "call") ∈ lw_tbl := lw_at lw_m7 164 rfl
theorem q1697 : (Jvm.Cond.stringRef "ThrowRules$Reader" (349 : Nat) "throw") ∈ lw_tbl := lw_at lw_m7 165 rfl
theorem q1698 : (Jvm.Cond.stringRef "ThrowRules$Reader" (351 : Nat) "set") ∈ lw_tbl := lw_at lw_m7 166 rfl
theorem q1699 : (Jvm.Cond.stringRef "ThrowRules$Reader" (353 : Nat) "if") ∈ lw_tbl := lw_at lw_m7 167 rfl
theorem q1700 : (Jvm.Cond.stringRef "ThrowRules$Reader" (355 : Nat) "while") ∈ lw_tbl := lw_at lw_m7 168 rfl
theorem q1701 : (Jvm.Cond.stringRef "ThrowRules$Reader" (357 : Nat) "loop") ∈ lw_tbl := lw_at lw_m7 169 rfl
theorem q1702 : (Jvm.Cond.stringRef "ThrowRules$Reader" (358 : Nat) "break") ∈ lw_tbl := lw_at lw_m7 170 rfl
theorem q1703 : (Jvm.Cond.stringRef "ThrowRules$Reader" (360 : Nat) "return") ∈ lw_tbl := lw_at lw_m7 171 rfl
theorem q1704 : (Jvm.Cond.stringRef "ThrowRules$Reader" (362 : Nat) "try") ∈ lw_tbl := lw_at lw_m7 172 rfl
theorem q1705 : (Jvm.Cond.classLink "ThrowRules$Reader" (288 : Nat) "ThrowRules$Plain") ∈ lw_all := lw_g (lw_at lw_m7 173 rfl) rfl
theorem q1707 : (Jvm.Cond.methodLink "ThrowRules$Reader" (364 : Nat) ({ cls := "ThrowRules$Plain", name := "<init>", desc := "(I)V" } : Jvm.MethodName)) ∈ lw_all := lw_g (lw_at lw_m7 175 rfl) rfl
theorem q1712 : (Jvm.Cond.fieldLinkNest "ThrowRules$Reader" (389 : Nat) "ThrowRules$Plain" "sort" "I" "ThrowRules") ∈ lw_tbl := lw_at lw_m7 180 rfl
theorem q1714 : (Jvm.Cond.fieldLinkNest "ThrowRules$Reader" (396 : Nat) "ThrowRules$Plain" "parameter" "LThrowRules$Catch;" "ThrowRules") ∈ lw_tbl := lw_at lw_m7 182 rfl
theorem q1725 : (Jvm.Cond.classLink "ThrowRules$Reader" (294 : Nat) "ThrowRules$Call") ∈ lw_all := lw_g (lw_at lw_m7 193 rfl) rfl
theorem q1727 : (Jvm.Cond.methodLinkNest "ThrowRules$Reader" (365 : Nat) ({ cls := "ThrowRules$Call", name := "<init>", desc := "()V" } : Jvm.MethodName) "ThrowRules") ∈ lw_tbl := lw_at lw_m7 195 rfl
theorem q1731 : (Jvm.Cond.fieldLinkNest "ThrowRules$Reader" (401 : Nat) "ThrowRules$Call" "name" "Ljava/lang/String;" "ThrowRules") ∈ lw_tbl := lw_at lw_m7 199 rfl
theorem q1733 : (Jvm.Cond.fieldLinkNest "ThrowRules$Reader" (456 : Nat) "ThrowRules$Call" "of" "LThrowRules$Method;" "ThrowRules") ∈ lw_tbl := lw_at lw_m7 201 rfl
theorem q1735 : (Jvm.Cond.fieldLinkNest "ThrowRules$Reader" (408 : Nat) "ThrowRules$Call" "lambda" "LThrowRules$Block;" "ThrowRules") ∈ lw_tbl := lw_at lw_m7 203 rfl
theorem q1748 : (Jvm.Cond.classLink "ThrowRules$Reader" (300 : Nat) "ThrowRules$Throw") ∈ lw_all := lw_g (lw_at lw_m7 216 rfl) rfl
theorem q1750 : (Jvm.Cond.methodLinkNest "ThrowRules$Reader" (366 : Nat) ({ cls := "ThrowRules$Throw", name := "<init>", desc := "()V" } : Jvm.MethodName) "ThrowRules") ∈ lw_tbl := lw_at lw_m7 218 rfl
theorem q1755 : (Jvm.Cond.fieldLinkNest "ThrowRules$Reader" (410 : Nat) "ThrowRules$Throw" "parameter" "LThrowRules$Catch;" "ThrowRules") ∈ lw_tbl := lw_at lw_m7 223 rfl
theorem q1757 : (Jvm.Cond.fieldLinkNest "ThrowRules$Reader" (411 : Nat) "ThrowRules$Throw" "kind" "LThrowRules$Kind;" "ThrowRules") ∈ lw_tbl := lw_at lw_m7 225 rfl
theorem q1768 : (Jvm.Cond.classLink "ThrowRules$Reader" (306 : Nat) "ThrowRules$If") ∈ lw_all := lw_g (lw_at lw_m7 236 rfl) rfl
theorem q1770 : (Jvm.Cond.methodLinkNest "ThrowRules$Reader" (367 : Nat) ({ cls := "ThrowRules$If", name := "<init>", desc := "()V" } : Jvm.MethodName) "ThrowRules") ∈ lw_tbl := lw_at lw_m7 238 rfl
theorem q1775 : (Jvm.Cond.fieldLinkNest "ThrowRules$Reader" (308 : Nat) "ThrowRules$If" "yes" "LThrowRules$Block;" "ThrowRules") ∈ lw_tbl := lw_at lw_m8 3 rfl
theorem q1777 : (Jvm.Cond.fieldLinkNest "ThrowRules$Reader" (313 : Nat) "ThrowRules$If" "no" "LThrowRules$Block;" "ThrowRules") ∈ lw_tbl := lw_at lw_m8 5 rfl
theorem q1788 : (Jvm.Cond.classLink "ThrowRules$Reader" (316 : Nat) "ThrowRules$Loop") ∈ lw_all := lw_g (lw_at lw_m8 16 rfl) rfl
theorem q1790 : (Jvm.Cond.methodLink "ThrowRules$Reader" (368 : Nat) ({ cls := "ThrowRules$Loop", name := "<init>", desc := "(Z)V" } : Jvm.MethodName)) ∈ lw_all := lw_g (lw_at lw_m8 18 rfl) rfl
theorem q1798 : (Jvm.Cond.fieldLinkNest "ThrowRules$Reader" (322 : Nat) "ThrowRules$Loop" "body" "LThrowRules$Block;" "ThrowRules") ∈ lw_tbl := lw_at lw_m8 26 rfl
theorem q1800 : (Jvm.Cond.fieldLinkNest "ThrowRules$Reader" (420 : Nat) "ThrowRules$Loop" "breaks" "Ljava/util/ArrayList;" "ThrowRules") ∈ lw_tbl := lw_at lw_m8 28 rfl
theorem q1813 : (Jvm.Cond.classLink "ThrowRules$Reader" (323 : Nat) "ThrowRules$Break") ∈ lw_all := lw_g (lw_at lw_m8 41 rfl) rfl
theorem q1815 : (Jvm.Cond.methodLinkNest "ThrowRules$Reader" (370 : Nat) ({ cls := "ThrowRules$Break", name := "<init>", desc := "()V" } : Jvm.MethodName) "ThrowRules") ∈ lw_tbl := lw_at lw_m8 43 rfl
theorem q1822 : (Jvm.Cond.fieldLinkNest "ThrowRules$Reader" (414 : Nat) "ThrowRules$Break" "loop" "LThrowRules$Loop;" "ThrowRules") ∈ lw_tbl := lw_at lw_m8 50 rfl
theorem q1824 : (Jvm.Cond.fieldLinkNest "ThrowRules$Reader" (419 : Nat) "ThrowRules$Break" "tries" "Ljava/util/ArrayList;" "ThrowRules") ∈ lw_tbl := lw_at lw_m8 52 rfl
theorem q1835 : (Jvm.Cond.classLink "ThrowRules$Reader" (329 : Nat) "ThrowRules$Try") ∈ lw_all := lw_g (lw_at lw_m8 63 rfl) rfl
theorem q1837 : (Jvm.Cond.methodLinkNest "ThrowRules$Reader" (371 : Nat) ({ cls := "ThrowRules$Try", name := "<init>", desc := "()V" } : Jvm.MethodName) "ThrowRules") ∈ lw_tbl := lw_at lw_m8 65 rfl
theorem q1844 : (Jvm.Cond.fieldLinkNest "ThrowRules$Reader" (423 : Nat) "ThrowRules$Try" "names" "Ljava/util/ArrayList;" "ThrowRules") ∈ lw_tbl := lw_at lw_m8 72 rfl
theorem q1846 : (Jvm.Cond.fieldLinkNest "ThrowRules$Reader" (426 : Nat) "ThrowRules$Try" "places" "Ljava/util/ArrayList;" "ThrowRules") ∈ lw_tbl := lw_at lw_m8 74 rfl
theorem q1848 : (Jvm.Cond.fieldLinkNest "ThrowRules$Reader" (459 : Nat) "ThrowRules$Try" "closed" "Ljava/util/ArrayList;" "ThrowRules") ∈ lw_tbl := lw_at lw_m8 76 rfl
theorem q1850 : (Jvm.Cond.fieldLinkNest "ThrowRules$Reader" (429 : Nat) "ThrowRules$Try" "body" "LThrowRules$Block;" "ThrowRules") ∈ lw_tbl := lw_at lw_m8 78 rfl
theorem q1853 : (Jvm.Cond.fieldLinkNest "ThrowRules$Reader" (437 : Nat) "ThrowRules$Try" "catches" "Ljava/util/ArrayList;" "ThrowRules") ∈ lw_tbl := lw_at lw_m8 81 rfl
theorem q1856 : (Jvm.Cond.fieldLinkNest "ThrowRules$Reader" (443 : Nat) "ThrowRules$Try" "last" "LThrowRules$Block;" "ThrowRules") ∈ lw_tbl := lw_at lw_m8 84 rfl
theorem q1879 : (Jvm.Cond.classLink "ThrowRules$Reader" (335 : Nat) "ThrowRules$Run") ∈ lw_all := lw_g (lw_at lw_m8 107 rfl) rfl
theorem q1881 : (Jvm.Cond.methodLinkNest "ThrowRules$Reader" (372 : Nat) ({ cls := "ThrowRules$Run", name := "<init>", desc := "()V" } : Jvm.MethodName) "ThrowRules") ∈ lw_tbl := lw_at lw_m8 109 rfl
theorem q1888 : (Jvm.Cond.fieldLinkNest "ThrowRules$Reader" (340 : Nat) "ThrowRules$Run" "body" "LThrowRules$Block;" "ThrowRules") ∈ lw_tbl := lw_at lw_m8 116 rfl
theorem q1890 : (Jvm.Cond.fieldLinkNest "ThrowRules$Reader" (341 : Nat) "ThrowRules$Run" "told" "Ljava/util/ArrayList;" "ThrowRules") ∈ lw_tbl := lw_at lw_m8 118 rfl
theorem q1901 : (Jvm.Cond.methodLink "ThrowRules$Reader" (290 : Nat) ({ cls := "ThrowRules$Reader", name := "plain", desc := "(LThrowRules$Plain;LThrowRules$Around;)V" } : Jvm.MethodName)) ∈ lw_all := lw_g (lw_at lw_m8 129 rfl) rfl
theorem q1902 : (Jvm.Cond.privateMethod ({ cls := "ThrowRules$Reader", name := "plain", desc := "(LThrowRules$Plain;LThrowRules$Around;)V" } : Jvm.MethodName)) ∈ lw_tbl := lw_at lw_m8 130 rfl
theorem q1903 : (Jvm.Cond.instanceMethod ({ cls := "ThrowRules$Reader", name := "plain", desc := "(LThrowRules$Plain;LThrowRules$Around;)V" } : Jvm.MethodName)) ∈ lw_all := lw_g (lw_at lw_m8 131 rfl) rfl
theorem q1904 : (Jvm.Cond.code ({ cls := "ThrowRules$Reader", name := "plain", desc := "(LThrowRules$Plain;LThrowRules$Around;)V" } : Jvm.MethodName) prog_15_method_20_code (3 : Nat) (Option.none : Option Jvm.ClassFile.FieldType)) ∈ lw_all := lw_g (lw_at lw_m8 132 rfl) rfl
theorem q1905 : (Jvm.Cond.methodLink "ThrowRules$Reader" (392 : Nat) ({ cls := "ThrowRules$Reader", name := "look", desc := "(Ljava/lang/String;LThrowRules$Around;)V" } : Jvm.MethodName)) ∈ lw_all := lw_g (lw_at lw_m8 133 rfl) rfl
theorem q1906 : (Jvm.Cond.privateMethod ({ cls := "ThrowRules$Reader", name := "look", desc := "(Ljava/lang/String;LThrowRules$Around;)V" } : Jvm.MethodName)) ∈ lw_tbl := lw_at lw_m8 134 rfl
theorem q1907 : (Jvm.Cond.instanceMethod ({ cls := "ThrowRules$Reader", name := "look", desc := "(Ljava/lang/String;LThrowRules$Around;)V" } : Jvm.MethodName)) ∈ lw_all := lw_g (lw_at lw_m8 135 rfl) rfl
theorem q1908 : (Jvm.Cond.code ({ cls := "ThrowRules$Reader", name := "look", desc := "(Ljava/lang/String;LThrowRules$Around;)V" } : Jvm.MethodName) prog_15_method_19_code (5 : Nat) (Option.none : Option Jvm.ClassFile.FieldType)) ∈ lw_all := lw_g (lw_at lw_m8 136 rfl) rfl
theorem q1909 : (Jvm.Cond.methodLink "ThrowRules$Reader" (296 : Nat) ({ cls := "ThrowRules$Reader", name := "call", desc := "(LThrowRules$Call;LThrowRules$Around;)V" } : Jvm.MethodName)) ∈ lw_all := lw_g (lw_at lw_m8 137 rfl) rfl
theorem q1910 : (Jvm.Cond.privateMethod ({ cls := "ThrowRules$Reader", name := "call", desc := "(LThrowRules$Call;LThrowRules$Around;)V" } : Jvm.MethodName)) ∈ lw_tbl := lw_at lw_m8 138 rfl
theorem q1911 : (Jvm.Cond.instanceMethod ({ cls := "ThrowRules$Reader", name := "call", desc := "(LThrowRules$Call;LThrowRules$Around;)V" } : Jvm.MethodName)) ∈ lw_all := lw_g (lw_at lw_m8 139 rfl) rfl
theorem q1912 : (Jvm.Cond.code ({ cls := "ThrowRules$Reader", name := "call", desc := "(LThrowRules$Call;LThrowRules$Around;)V" } : Jvm.MethodName) prog_15_method_21_code (4 : Nat) (Option.none : Option Jvm.ClassFile.FieldType)) ∈ lw_all := lw_g (lw_at lw_m8 140 rfl) rfl
theorem q1913 : (Jvm.Cond.methodLink "ThrowRules$Reader" (402 : Nat) ({ cls := "java/lang/Integer", name := "valueOf", desc := "(I)Ljava/lang/Integer;" } : Jvm.MethodName)) ∈ lw_all := lw_g (lw_at lw_m8 141 rfl) rfl
theorem q1932 : (Jvm.Cond.methodLink "ThrowRules$Reader" (302 : Nat) ({ cls := "ThrowRules$Reader", name := "thrown", desc := "(LThrowRules$Throw;LThrowRules$Around;)V" } : Jvm.MethodName)) ∈ lw_all := lw_g (lw_at lw_m8 160 rfl) rfl
theorem q1933 : (Jvm.Cond.privateMethod ({ cls := "ThrowRules$Reader", name := "thrown", desc := "(LThrowRules$Throw;LThrowRules$Around;)V" } : Jvm.MethodName)) ∈ lw_tbl := lw_at lw_m8 161 rfl
theorem q1934 : (Jvm.Cond.instanceMethod ({ cls := "ThrowRules$Reader", name := "thrown", desc := "(LThrowRules$Throw;LThrowRules$Around;)V" } : Jvm.MethodName)) ∈ lw_all := lw_g (lw_at lw_m8 162 rfl) rfl
theorem q1935 : (Jvm.Cond.code ({ cls := "ThrowRules$Reader", name := "thrown", desc := "(LThrowRules$Throw;LThrowRules$Around;)V" } : Jvm.MethodName) prog_15_method_22_code (4 : Nat) (Option.none : Option Jvm.ClassFile.FieldType)) ∈ lw_all := lw_g (lw_at lw_m8 163 rfl) rfl
theorem q1936 : (Jvm.Cond.stringRef "ThrowRules$Reader" (311 : Nat) "else") ∈ lw_tbl := lw_at lw_m8 164 rfl
theorem q1937 : (Jvm.Cond.methodLink "ThrowRules$Reader" (325 : Nat) ({ cls := "ThrowRules$Reader", name := "leave", desc := "(LThrowRules$Break;LThrowRules$Around;)V" } : Jvm.MethodName)) ∈ lw_all := lw_g (lw_at lw_m8 165 rfl) rfl
theorem q1938 : (Jvm.Cond.privateMethod ({ cls := "ThrowRules$Reader", name := "leave", desc := "(LThrowRules$Break;LThrowRules$Around;)V" } : Jvm.MethodName)) ∈ lw_tbl := lw_at lw_m8 166 rfl
theorem q1939 : (Jvm.Cond.instanceMethod ({ cls := "ThrowRules$Reader", name := "leave", desc := "(LThrowRules$Break;LThrowRules$Around;)V" } : Jvm.MethodName)) ∈ lw_all := lw_g (lw_at lw_m8 167 rfl) rfl
theorem q1940 : (Jvm.Cond.code ({ cls := "ThrowRules$Reader", name := "leave", desc := "(LThrowRules$Break;LThrowRules$Around;)V" } : Jvm.MethodName) prog_15_method_23_code (4 : Nat) (Option.none : Option Jvm.ClassFile.FieldType)) ∈ lw_all := lw_g (lw_at lw_m8 168 rfl) rfl
theorem q1941 : (Jvm.Cond.methodLink "ThrowRules$Reader" (331 : Nat) ({ cls := "ThrowRules$Reader", name := "tried", desc := "(LThrowRules$Try;LThrowRules$Around;)V" } : Jvm.MethodName)) ∈ lw_all := lw_g (lw_at lw_m8 169 rfl) rfl
theorem q1942 : (Jvm.Cond.privateMethod ({ cls := "ThrowRules$Reader", name := "tried", desc := "(LThrowRules$Try;LThrowRules$Around;)V" } : Jvm.MethodName)) ∈ lw_tbl := lw_at lw_m8 170 rfl
theorem q1943 : (Jvm.Cond.instanceMethod ({ cls := "ThrowRules$Reader", name := "tried", desc := "(LThrowRules$Try;LThrowRules$Around;)V" } : Jvm.MethodName)) ∈ lw_all := lw_g (lw_at lw_m8 171 rfl) rfl
theorem q1944 : (Jvm.Cond.code ({ cls := "ThrowRules$Reader", name := "tried", desc := "(LThrowRules$Try;LThrowRules$Around;)V" } : Jvm.MethodName) prog_15_method_24_code (4 : Nat) (Option.none : Option Jvm.ClassFile.FieldType)) ∈ lw_all := lw_g (lw_at lw_m8 172 rfl) rfl
theorem q1945 : (Jvm.Cond.methodLink "ThrowRules$Reader" (430 : Nat) ({ cls := "java/util/ArrayList", name := "isEmpty", desc := "()Z" } : Jvm.MethodName)) ∈ lw_all := lw_g (lw_at lw_m8 173 rfl) rfl
theorem q1949 : (Jvm.Cond.stringRef "ThrowRules$Reader" (433 : Nat) "catch") ∈ lw_tbl := lw_at lw_m8 177 rfl
theorem q1950 : (Jvm.Cond.stringRef "ThrowRules$Reader" (435 : Nat) "finally") ∈ lw_tbl := lw_at lw_m8 178 rfl
theorem q1951 : (Jvm.Cond.methodLink "ThrowRules$Reader" (440 : Nat) ({ cls := "ThrowRules$Reader", name := "caught", desc := "(LThrowRules$Try;LThrowRules$Around;)V" } : Jvm.MethodName)) ∈ lw_all := lw_g (lw_at lw_m8 179 rfl) rfl
theorem q1952 : (Jvm.Cond.privateMethod ({ cls := "ThrowRules$Reader", name := "caught", desc := "(LThrowRules$Try;LThrowRules$Around;)V" } : Jvm.MethodName)) ∈ lw_tbl := lw_at lw_m8 180 rfl
theorem q1953 : (Jvm.Cond.instanceMethod ({ cls := "ThrowRules$Reader", name := "caught", desc := "(LThrowRules$Try;LThrowRules$Around;)V" } : Jvm.MethodName)) ∈ lw_all := lw_g (lw_at lw_m8 181 rfl) rfl
theorem q1954 : (Jvm.Cond.code ({ cls := "ThrowRules$Reader", name := "caught", desc := "(LThrowRules$Try;LThrowRules$Around;)V" } : Jvm.MethodName) prog_15_method_25_code (6 : Nat) (Option.none : Option Jvm.ClassFile.FieldType)) ∈ lw_all := lw_g (lw_at lw_m8 182 rfl) rfl
theorem q1955 : (Jvm.Cond.classLink "ThrowRules$Reader" (382 : Nat) "ThrowRules$Catch") ∈ lw_all := lw_g (lw_at lw_m8 183 rfl) rfl
theorem q1957 : (Jvm.Cond.methodLink "ThrowRules$Reader" (446 : Nat) ({ cls := "ThrowRules$Catch", name := "<init>", desc := "(LThrowRules$Try;)V" } : Jvm.MethodName)) ∈ lw_all := lw_g (lw_at lw_m8 185 rfl) rfl
theorem q1966 : (Jvm.Cond.fieldLinkNest "ThrowRules$Reader" (400 : Nat) "ThrowRules$Catch" "kinds" "Ljava/util/ArrayList;" "ThrowRules") ∈ lw_tbl := lw_at lw_m8 194 rfl
theorem q1967 : (Jvm.Cond.fieldLinkNest "ThrowRules$Reader" (381 : Nat) "ThrowRules$Catch" "name" "Ljava/lang/String;" "ThrowRules") ∈ lw_tbl := lw_at lw_m8 195 rfl
theorem q1969 : (Jvm.Cond.fieldLinkNest "ThrowRules$Reader" (449 : Nat) "ThrowRules$Catch" "body" "LThrowRules$Block;" "ThrowRules") ∈ lw_tbl := lw_at lw_m8 197 rfl
theorem q1971 : (Jvm.Cond.fieldLinkNest "ThrowRules$Reader" (397 : Nat) "ThrowRules$Catch" "isSet" "Z" "ThrowRules") ∈ lw_tbl := lw_at lw_m8 199 rfl
theorem q1988 : (Jvm.Cond.methodLink "ThrowRules$Reader" (149 : Nat) ({ cls := "ThrowRules$Reader", name := "link", desc := "()V" } : Jvm.MethodName)) ∈ lw_all := lw_g (lw_at lw_m8 216 rfl) rfl
theorem q1989 : (Jvm.Cond.privateMethod ({ cls := "ThrowRules$Reader", name := "link", desc := "()V" } : Jvm.MethodName)) ∈ lw_tbl := lw_at lw_m8 217 rfl
theorem q1990 : (Jvm.Cond.instanceMethod ({ cls := "ThrowRules$Reader", name := "link", desc := "()V" } : Jvm.MethodName)) ∈ lw_all := lw_g (lw_at lw_m8 218 rfl) rfl
theorem q1991 : (Jvm.Cond.code ({ cls := "ThrowRules$Reader", name := "link", desc := "()V" } : Jvm.MethodName) prog_15_method_26_code (4 : Nat) (Option.none : Option Jvm.ClassFile.FieldType)) ∈ lw_all := lw_g (lw_at lw_m8 219 rfl) rfl
theorem q1992 : (Jvm.Cond.classLink "ThrowRules$Reader" (403 : Nat) "java/lang/Integer") ∈ lw_all := lw_g (lw_at lw_m8 220 rfl) rfl
theorem q1993 : (Jvm.Cond.methodLink "ThrowRules$Reader" (450 : Nat) ({ cls := "java/lang/Integer", name := "intValue", desc := "()I" } : Jvm.MethodName)) ∈ lw_all := lw_g (lw_at lw_m8 221 rfl) rfl
theorem q1994 : (Jvm.Cond.methodLink "ThrowRules$Reader" (453 : Nat) ({ cls := "ThrowRules$Reader", name := "method", desc := "(Ljava/lang/String;I)LThrowRules$Method;" } : Jvm.MethodName)) ∈ lw_all := lw_g (lw_at lw_m8 222 rfl) rfl
theorem q1995 : (Jvm.Cond.privateMethod ({ cls := "ThrowRules$Reader", name := "method", desc := "(Ljava/lang/String;I)LThrowRules$Method;" } : Jvm.MethodName)) ∈ lw_tbl := lw_at lw_m8 223 rfl
theorem q1996 : (Jvm.Cond.instanceMethod ({ cls := "ThrowRules$Reader", name := "method", desc := "(Ljava/lang/String;I)LThrowRules$Method;" } : Jvm.MethodName)) ∈ lw_all := lw_g (lw_at lw_m8 224 rfl) rfl
theorem q1997 : (Jvm.Cond.code ({ cls := "ThrowRules$Reader", name := "method", desc := "(Ljava/lang/String;I)LThrowRules$Method;" } : Jvm.MethodName) prog_15_method_27_code (4 : Nat) (Option.some (Jvm.ClassFile.FieldType.object "ThrowRules$Method"))) ∈ lw_all := lw_g (lw_at lw_m8 225 rfl) rfl
theorem q1998 : (Jvm.Cond.classLink "ThrowRules$Reader" (83 : Nat) "java/lang/String") ∈ lw_all := lw_g (lw_at lw_m8 226 rfl) rfl
theorem q1999 : (Jvm.Cond.methodLink "ThrowRules$Reader" (152 : Nat) ({ cls := "ThrowRules$Reader", name := "judge", desc := "()V" } : Jvm.MethodName)) ∈ lw_all := lw_g (lw_at lw_m8 227 rfl) rfl
theorem q2000 : (Jvm.Cond.privateMethod ({ cls := "ThrowRules$Reader", name := "judge", desc := "()V" } : Jvm.MethodName)) ∈ lw_tbl := lw_at lw_m8 228 rfl
theorem q2001 : (Jvm.Cond.instanceMethod ({ cls := "ThrowRules$Reader", name := "judge", desc := "()V" } : Jvm.MethodName)) ∈ lw_all := lw_g (lw_at lw_m8 229 rfl) rfl
theorem q2002 : (Jvm.Cond.code ({ cls := "ThrowRules$Reader", name := "judge", desc := "()V" } : Jvm.MethodName) prog_15_method_28_code (5 : Nat) (Option.none : Option Jvm.ClassFile.FieldType)) ∈ lw_all := lw_g (lw_at lw_m8 230 rfl) rfl
theorem q2003 : (Jvm.Cond.methodLink "ThrowRules$Reader" (465 : Nat) ({ cls := "ThrowRules$Block", name := "judge", desc := "(LThrowRules$Unit;)V" } : Jvm.MethodName)) ∈ lw_all := lw_g (lw_at lw_m8 231 rfl) rfl
theorem q2167 : (Jvm.Cond.methodLink "ThrowRules$Reader" (471 : Nat) ({ cls := "ThrowRules$Unit", name := "bitsOf", desc := "(Ljava/util/ArrayList;)I" } : Jvm.MethodName)) ∈ lw_all := lw_g (lw_at lw_m9 155 rfl) rfl
theorem q2168 : (Jvm.Cond.methodLink "ThrowRules$Reader" (476 : Nat) ({ cls := "ThrowRules$Unit", name := "report", desc := "(III)V" } : Jvm.MethodName)) ∈ lw_all := lw_g (lw_at lw_m9 156 rfl) rfl
theorem q2169 : (Jvm.Cond.methodLink "ThrowRules$Reader" (480 : Nat) ({ cls := "ThrowRules$Unit", name := "isChecked", desc := "(LThrowRules$Kind;)Z" } : Jvm.MethodName)) ∈ lw_all := lw_g (lw_at lw_m9 157 rfl) rfl
theorem q2170 : (Jvm.Cond.methodLink "ThrowRules$Reader" (484 : Nat) ({ cls := "ThrowRules$Unit", name := "isBelowAny", desc := "(LThrowRules$Kind;I)Z" } : Jvm.MethodName)) ∈ lw_all := lw_g (lw_at lw_m9 158 rfl) rfl
theorem q2936 : (Jvm.Cond.castable "ThrowRules$Reader" "java/lang/Object") ∈ lw_tbl := lw_at lw_m12 204 rfl
theorem in_X1 : ∀ w ∈ wsX10, w ∈ lw_all := lw_in wsX10 [273, 275, 277, 279, 281, 283, 285, 287, 289, 291, 293, 295, 297, 299, 301, 303, 305, 307] (by decide +kernel) (by decide +kernel)

