/-! java/util/AbstractCollection -/
set_option maxRecDepth 100000
def RJ0 : String := "java/util/AbstractCollection"
abbrev cJ0_init : ByteArray := prog_35_method_1_code
def yJ0_init : MethodName := ⟨RJ0, "<init>", "()V"⟩
theorem dJ0_init_0 : decode cJ0_init 0 = .ok (.aload_n 0, 1) := by decide +kernel
theorem dJ0_init_1 : decode cJ0_init 1 = .ok (.invokespecial 1, 3) := by decide +kernel
theorem dJ0_init_4 : decode cJ0_init 4 = .ok (.return_, 1) := by decide +kernel
theorem q136 : (Jvm.Cond.initialized "java/util/AbstractCollection") ∈ lw_all := lw_g (lw_at lw_m1 4 rfl) rfl
theorem q399 : (Jvm.Cond.instanceMethod ({ cls := "java/util/AbstractCollection", name := "<init>", desc := "()V" } : Jvm.MethodName)) ∈ lw_all := lw_g (lw_at lw_m2 27 rfl) rfl
theorem q400 : (Jvm.Cond.code ({ cls := "java/util/AbstractCollection", name := "<init>", desc := "()V" } : Jvm.MethodName) prog_35_method_1_code (1 : Nat) (Option.none : Option Jvm.ClassFile.FieldType)) ∈ lw_all := lw_g (lw_at lw_m2 28 rfl) rfl
theorem q401 : (Jvm.Cond.methodLink "java/util/AbstractCollection" (1 : Nat) ({ cls := "java/lang/Object", name := "<init>", desc := "()V" } : Jvm.MethodName)) ∈ lw_all := lw_g (lw_at lw_m2 29 rfl) rfl

/-! java/util/AbstractList -/
set_option maxRecDepth 100000
def RJ1 : String := "java/util/AbstractList"
abbrev cJ1_init : ByteArray := prog_36_method_1_code
def yJ1_init : MethodName := ⟨RJ1, "<init>", "()V"⟩
def dkwJ1_init_0 : List UInt8 := [42, 183, 0, 1, 42, 3, 181, 0, 7, 177]
abbrev dktJ1_init_0 : List UInt8 := dkwJ1_init_0 ++ []
theorem dksJ1_init_0 : cJ1_init.data.toList.drop 0 = dktJ1_init_0 := by decide +kernel
theorem dJ1_init_0 : decode cJ1_init 0 = .ok (.aload_n 0, 1) := dk_42 (dk_at dksJ1_init_0 0 rfl rfl)
theorem dJ1_init_1 : decode cJ1_init 1 = .ok (.invokespecial 1, 3) := dk_183 0 1 (dk_at dksJ1_init_0 1 rfl rfl)
theorem dJ1_init_4 : decode cJ1_init 4 = .ok (.aload_n 0, 1) := dk_42 (dk_at dksJ1_init_0 4 rfl rfl)
theorem dJ1_init_5 : decode cJ1_init 5 = .ok (.iconst 0, 1) := dk_3 (dk_at dksJ1_init_0 5 rfl rfl)
theorem dJ1_init_6 : decode cJ1_init 6 = .ok (.putfield 7, 3) := dk_181 0 7 (dk_at dksJ1_init_0 6 rfl rfl)
theorem dJ1_init_9 : decode cJ1_init 9 = .ok (.return_, 1) := dk_177 (dk_at dksJ1_init_0 9 rfl rfl)
theorem q137 : (Jvm.Cond.initialized "java/util/AbstractList") ∈ lw_all := lw_g (lw_at lw_m1 5 rfl) rfl
theorem q396 : (Jvm.Cond.instanceMethod ({ cls := "java/util/AbstractList", name := "<init>", desc := "()V" } : Jvm.MethodName)) ∈ lw_all := lw_g (lw_at lw_m2 24 rfl) rfl
theorem q397 : (Jvm.Cond.code ({ cls := "java/util/AbstractList", name := "<init>", desc := "()V" } : Jvm.MethodName) prog_36_method_1_code (1 : Nat) (Option.none : Option Jvm.ClassFile.FieldType)) ∈ lw_all := lw_g (lw_at lw_m2 25 rfl) rfl
theorem q398 : (Jvm.Cond.methodLink "java/util/AbstractList" (1 : Nat) ({ cls := "java/util/AbstractCollection", name := "<init>", desc := "()V" } : Jvm.MethodName)) ∈ lw_all := lw_g (lw_at lw_m2 26 rfl) rfl
theorem q408 : (Jvm.Cond.fieldLink "java/util/AbstractList" (7 : Nat) "java/util/AbstractList" "modCount" "I") ∈ lw_all := lw_g (lw_at lw_m2 36 rfl) rfl
theorem q416 : (Jvm.Cond.soleField "java/util/AbstractList" "modCount") ∈ lw_all := lw_g (lw_at lw_m2 44 rfl) rfl

/-! java/lang/RuntimeException -/
set_option maxRecDepth 100000
def RJ10 : String := "java/lang/RuntimeException"
abbrev cJ10_init : ByteArray := prog_27_method_2_code
def yJ10_init : MethodName := ⟨RJ10, "<init>", "(Ljava/lang/String;)V"⟩
def dkwJ10_init_0 : List UInt8 := [42, 43, 183, 0, 7, 177]
abbrev dktJ10_init_0 : List UInt8 := dkwJ10_init_0 ++ []
theorem dksJ10_init_0 : cJ10_init.data.toList.drop 0 = dktJ10_init_0 := by decide +kernel
theorem dJ10_init_0 : decode cJ10_init 0 = .ok (.aload_n 0, 1) := dk_42 (dk_at dksJ10_init_0 0 rfl rfl)
theorem dJ10_init_1 : decode cJ10_init 1 = .ok (.aload_n 1, 1) := dk_43 (dk_at dksJ10_init_0 1 rfl rfl)
theorem dJ10_init_2 : decode cJ10_init 2 = .ok (.invokespecial 7, 3) := dk_183 0 7 (dk_at dksJ10_init_0 2 rfl rfl)
theorem dJ10_init_5 : decode cJ10_init 5 = .ok (.return_, 1) := dk_177 (dk_at dksJ10_init_0 5 rfl rfl)
abbrev cJ10_init_2 : ByteArray := prog_27_method_1_code
def yJ10_init_2 : MethodName := ⟨RJ10, "<init>", "()V"⟩
theorem dJ10_init_2_0 : decode cJ10_init_2 0 = .ok (.aload_n 0, 1) := by decide +kernel
theorem dJ10_init_2_1 : decode cJ10_init_2 1 = .ok (.invokespecial 1, 3) := by decide +kernel
theorem dJ10_init_2_4 : decode cJ10_init_2 4 = .ok (.return_, 1) := by decide +kernel
abbrev cJ10_init_3 : ByteArray := prog_27_method_5_code
def yJ10_init_3 : MethodName := ⟨RJ10, "<init>", "(Ljava/lang/String;Ljava/lang/Throwable;ZZ)V"⟩
def dkwJ10_init_3_0 : List UInt8 := [42, 43, 44, 29, 21, 4, 183, 0, 16, 177]
abbrev dktJ10_init_3_0 : List UInt8 := dkwJ10_init_3_0 ++ []
theorem dksJ10_init_3_0 : cJ10_init_3.data.toList.drop 0 = dktJ10_init_3_0 := by decide +kernel
theorem dJ10_init_3_0 : decode cJ10_init_3 0 = .ok (.aload_n 0, 1) := dk_42 (dk_at dksJ10_init_3_0 0 rfl rfl)
theorem dJ10_init_3_1 : decode cJ10_init_3 1 = .ok (.aload_n 1, 1) := dk_43 (dk_at dksJ10_init_3_0 1 rfl rfl)
theorem dJ10_init_3_2 : decode cJ10_init_3 2 = .ok (.aload_n 2, 1) := dk_44 (dk_at dksJ10_init_3_0 2 rfl rfl)
theorem dJ10_init_3_3 : decode cJ10_init_3 3 = .ok (.iload_n 3, 1) := dk_29 (dk_at dksJ10_init_3_0 3 rfl rfl)
theorem dJ10_init_3_4 : decode cJ10_init_3 4 = .ok (.iload 4, 2) := dk_21 4 (dk_at dksJ10_init_3_0 4 rfl rfl)
theorem dJ10_init_3_6 : decode cJ10_init_3 6 = .ok (.invokespecial 16, 3) := dk_183 0 16 (dk_at dksJ10_init_3_0 6 rfl rfl)
theorem dJ10_init_3_9 : decode cJ10_init_3 9 = .ok (.return_, 1) := dk_177 (dk_at dksJ10_init_3_0 9 rfl rfl)
theorem q150 : (Jvm.Cond.initialized "java/lang/RuntimeException") ∈ lw_all := lw_g (lw_at lw_m1 18 rfl) rfl
theorem q186 : (Jvm.Cond.instanceMethod ({ cls := "java/lang/RuntimeException", name := "<init>", desc := "(Ljava/lang/String;)V" } : Jvm.MethodName)) ∈ lw_all := lw_g (lw_at lw_m1 54 rfl) rfl
theorem q187 : (Jvm.Cond.code ({ cls := "java/lang/RuntimeException", name := "<init>", desc := "(Ljava/lang/String;)V" } : Jvm.MethodName) prog_27_method_2_code (2 : Nat) (Option.none : Option Jvm.ClassFile.FieldType)) ∈ lw_all := lw_g (lw_at lw_m1 55 rfl) rfl
theorem q188 : (Jvm.Cond.methodLink "java/lang/RuntimeException" (7 : Nat) ({ cls := "java/lang/Exception", name := "<init>", desc := "(Ljava/lang/String;)V" } : Jvm.MethodName)) ∈ lw_all := lw_g (lw_at lw_m1 56 rfl) rfl
theorem q217 : (Jvm.Cond.sameMethod "java/lang/RuntimeException" "java/lang/Throwable" "fillInStackTrace" "()Ljava/lang/Throwable;") ∈ lw_all := lw_g (lw_at lw_m1 85 rfl) rfl
theorem q220 : (Jvm.Cond.superclass "java/lang/RuntimeException" "java/lang/Exception") ∈ lw_all := lw_g (lw_at lw_m1 88 rfl) rfl
theorem q247 : (Jvm.Cond.declares ({ cls := "java/lang/RuntimeException", name := "<init>", desc := "()V" } : Jvm.MethodName)) ∈ lw_tbl := lw_at lw_m1 115 rfl
theorem q248 : (Jvm.Cond.declares ({ cls := "java/lang/RuntimeException", name := "<init>", desc := "(Ljava/lang/String;)V" } : Jvm.MethodName)) ∈ lw_tbl := lw_at lw_m1 116 rfl
theorem q284 : (Jvm.Cond.instanceMethod ({ cls := "java/lang/RuntimeException", name := "<init>", desc := "()V" } : Jvm.MethodName)) ∈ lw_all := lw_g (lw_at lw_m1 152 rfl) rfl
theorem q285 : (Jvm.Cond.code ({ cls := "java/lang/RuntimeException", name := "<init>", desc := "()V" } : Jvm.MethodName) prog_27_method_1_code (1 : Nat) (Option.none : Option Jvm.ClassFile.FieldType)) ∈ lw_all := lw_g (lw_at lw_m1 153 rfl) rfl
theorem q286 : (Jvm.Cond.methodLink "java/lang/RuntimeException" (1 : Nat) ({ cls := "java/lang/Exception", name := "<init>", desc := "()V" } : Jvm.MethodName)) ∈ lw_all := lw_g (lw_at lw_m1 154 rfl) rfl
theorem q304 : (Jvm.Cond.castable "java/lang/RuntimeException" "java/lang/Throwable") ∈ lw_tbl := lw_at lw_m1 172 rfl
theorem q787 : (Jvm.Cond.instanceMethod ({ cls := "java/lang/RuntimeException", name := "<init>", desc := "(Ljava/lang/String;Ljava/lang/Throwable;ZZ)V" } : Jvm.MethodName)) ∈ lw_all := lw_g (lw_at lw_m3 175 rfl) rfl
theorem q788 : (Jvm.Cond.code ({ cls := "java/lang/RuntimeException", name := "<init>", desc := "(Ljava/lang/String;Ljava/lang/Throwable;ZZ)V" } : Jvm.MethodName) prog_27_method_5_code (5 : Nat) (Option.none : Option Jvm.ClassFile.FieldType)) ∈ lw_all := lw_g (lw_at lw_m3 176 rfl) rfl
theorem q789 : (Jvm.Cond.methodLink "java/lang/RuntimeException" (16 : Nat) ({ cls := "java/lang/Exception", name := "<init>", desc := "(Ljava/lang/String;Ljava/lang/Throwable;ZZ)V" } : Jvm.MethodName)) ∈ lw_all := lw_g (lw_at lw_m3 177 rfl) rfl

/-! jdk/internal/util/ArraysSupport -/
set_option maxRecDepth 100000
def RJ11 : String := "jdk/internal/util/ArraysSupport"
abbrev cJ11_newLength : ByteArray := prog_44_method_27_code
def yJ11_newLength : MethodName := ⟨RJ11, "newLength", "(III)I"⟩
def dkwJ11_newLength_1 : List UInt8 := [184, 0, 201, 172]
abbrev dktJ11_newLength_1 : List UInt8 := dkwJ11_newLength_1 ++ []
def dkwJ11_newLength_0 : List UInt8 := [26, 27, 28, 184, 0, 194, 96, 62, 3, 29, 162, 0, 11, 29, 18, 200, 163, 0, 5, 29, 172, 26, 27]
abbrev dktJ11_newLength_0 : List UInt8 := dkwJ11_newLength_0 ++ dktJ11_newLength_1
theorem dksJ11_newLength_0 : cJ11_newLength.data.toList.drop 0 = dktJ11_newLength_0 := by decide +kernel
theorem dksJ11_newLength_1 : cJ11_newLength.data.toList.drop 23 = dktJ11_newLength_1 := dk_seg dksJ11_newLength_0 23 rfl rfl
theorem dJ11_newLength_0 : decode cJ11_newLength 0 = .ok (.iload_n 0, 1) := dk_26 (dk_at dksJ11_newLength_0 0 rfl rfl)
theorem dJ11_newLength_1 : decode cJ11_newLength 1 = .ok (.iload_n 1, 1) := dk_27 (dk_at dksJ11_newLength_0 1 rfl rfl)
theorem dJ11_newLength_2 : decode cJ11_newLength 2 = .ok (.iload_n 2, 1) := dk_28 (dk_at dksJ11_newLength_0 2 rfl rfl)
theorem dJ11_newLength_3 : decode cJ11_newLength 3 = .ok (.invokestatic 194, 3) := dk_184 0 194 (dk_at dksJ11_newLength_0 3 rfl rfl)
theorem dJ11_newLength_6 : decode cJ11_newLength 6 = .ok (.iadd, 1) := dk_96 (dk_at dksJ11_newLength_0 6 rfl rfl)
theorem dJ11_newLength_7 : decode cJ11_newLength 7 = .ok (.istore_n 3, 1) := dk_62 (dk_at dksJ11_newLength_0 7 rfl rfl)
theorem dJ11_newLength_8 : decode cJ11_newLength 8 = .ok (.iconst 0, 1) := dk_3 (dk_at dksJ11_newLength_0 8 rfl rfl)
theorem dJ11_newLength_9 : decode cJ11_newLength 9 = .ok (.iload_n 3, 1) := dk_29 (dk_at dksJ11_newLength_0 9 rfl rfl)
theorem dJ11_newLength_10 : decode cJ11_newLength 10 = .ok (.if_icmp .ge 11, 3) := dk_162 0 11 (dk_at dksJ11_newLength_0 10 rfl rfl)
theorem dJ11_newLength_13 : decode cJ11_newLength 13 = .ok (.iload_n 3, 1) := dk_29 (dk_at dksJ11_newLength_0 13 rfl rfl)
theorem dJ11_newLength_14 : decode cJ11_newLength 14 = .ok (.ldc 200, 2) := dk_18 200 (dk_at dksJ11_newLength_0 14 rfl rfl)
theorem dJ11_newLength_16 : decode cJ11_newLength 16 = .ok (.if_icmp .gt 5, 3) := dk_163 0 5 (dk_at dksJ11_newLength_0 16 rfl rfl)
theorem dJ11_newLength_19 : decode cJ11_newLength 19 = .ok (.iload_n 3, 1) := dk_29 (dk_at dksJ11_newLength_0 19 rfl rfl)
theorem dJ11_newLength_20 : decode cJ11_newLength 20 = .ok (.ireturn, 1) := dk_172 (dk_at dksJ11_newLength_0 20 rfl rfl)
theorem dJ11_newLength_21 : decode cJ11_newLength 21 = .ok (.iload_n 0, 1) := dk_26 (dk_at dksJ11_newLength_0 21 rfl rfl)
theorem dJ11_newLength_22 : decode cJ11_newLength 22 = .ok (.iload_n 1, 1) := dk_27 (dk_at dksJ11_newLength_0 22 rfl rfl)
theorem dJ11_newLength_23 : decode cJ11_newLength 23 = .ok (.invokestatic 201, 3) := dk_184 0 201 (dk_at dksJ11_newLength_1 0 rfl rfl)
theorem dJ11_newLength_26 : decode cJ11_newLength 26 = .ok (.ireturn, 1) := dk_172 (dk_at dksJ11_newLength_1 3 rfl rfl)
abbrev cJ11_hugeLength : ByteArray := prog_44_method_28_code
def yJ11_hugeLength : MethodName := ⟨RJ11, "hugeLength", "(II)I"⟩
def dkwJ11_hugeLength_2 : List UInt8 := [191, 28, 18, 200, 163, 0, 6, 18, 200, 172, 28, 172]
abbrev dktJ11_hugeLength_2 : List UInt8 := dkwJ11_hugeLength_2 ++ []
def dkwJ11_hugeLength_1 : List UInt8 := [26, 182, 0, 98, 18, 208, 182, 0, 94, 27, 182, 0, 98, 18, 210, 182, 0, 94, 182, 0, 101, 183, 0, 212]
abbrev dktJ11_hugeLength_1 : List UInt8 := dkwJ11_hugeLength_1 ++ dktJ11_hugeLength_2
def dkwJ11_hugeLength_0 : List UInt8 := [26, 27, 96, 61, 28, 156, 0, 44, 187, 0, 204, 89, 187, 0, 89, 89, 183, 0, 91, 18, 206, 182, 0, 94]
abbrev dktJ11_hugeLength_0 : List UInt8 := dkwJ11_hugeLength_0 ++ dktJ11_hugeLength_1
theorem dksJ11_hugeLength_0 : cJ11_hugeLength.data.toList.drop 0 = dktJ11_hugeLength_0 := by decide +kernel
theorem dksJ11_hugeLength_1 : cJ11_hugeLength.data.toList.drop 24 = dktJ11_hugeLength_1 := dk_seg dksJ11_hugeLength_0 24 rfl rfl
theorem dksJ11_hugeLength_2 : cJ11_hugeLength.data.toList.drop 48 = dktJ11_hugeLength_2 := dk_seg dksJ11_hugeLength_1 24 rfl rfl
theorem dJ11_hugeLength_0 : decode cJ11_hugeLength 0 = .ok (.iload_n 0, 1) := dk_26 (dk_at dksJ11_hugeLength_0 0 rfl rfl)
theorem dJ11_hugeLength_1 : decode cJ11_hugeLength 1 = .ok (.iload_n 1, 1) := dk_27 (dk_at dksJ11_hugeLength_0 1 rfl rfl)
theorem dJ11_hugeLength_2 : decode cJ11_hugeLength 2 = .ok (.iadd, 1) := dk_96 (dk_at dksJ11_hugeLength_0 2 rfl rfl)
theorem dJ11_hugeLength_3 : decode cJ11_hugeLength 3 = .ok (.istore_n 2, 1) := dk_61 (dk_at dksJ11_hugeLength_0 3 rfl rfl)
theorem dJ11_hugeLength_4 : decode cJ11_hugeLength 4 = .ok (.iload_n 2, 1) := dk_28 (dk_at dksJ11_hugeLength_0 4 rfl rfl)
theorem dJ11_hugeLength_5 : decode cJ11_hugeLength 5 = .ok (.ifCond .ge 44, 3) := dk_156 0 44 (dk_at dksJ11_hugeLength_0 5 rfl rfl)
theorem dJ11_hugeLength_8 : decode cJ11_hugeLength 8 = .ok (.new 204, 3) := dk_187 0 204 (dk_at dksJ11_hugeLength_0 8 rfl rfl)
theorem dJ11_hugeLength_11 : decode cJ11_hugeLength 11 = .ok (.dup, 1) := dk_89 (dk_at dksJ11_hugeLength_0 11 rfl rfl)
theorem dJ11_hugeLength_12 : decode cJ11_hugeLength 12 = .ok (.new 89, 3) := dk_187 0 89 (dk_at dksJ11_hugeLength_0 12 rfl rfl)
theorem dJ11_hugeLength_15 : decode cJ11_hugeLength 15 = .ok (.dup, 1) := dk_89 (dk_at dksJ11_hugeLength_0 15 rfl rfl)
theorem dJ11_hugeLength_16 : decode cJ11_hugeLength 16 = .ok (.invokespecial 91, 3) := dk_183 0 91 (dk_at dksJ11_hugeLength_0 16 rfl rfl)
theorem dJ11_hugeLength_19 : decode cJ11_hugeLength 19 = .ok (.ldc 206, 2) := dk_18 206 (dk_at dksJ11_hugeLength_0 19 rfl rfl)
theorem dJ11_hugeLength_21 : decode cJ11_hugeLength 21 = .ok (.invokevirtual 94, 3) := dk_182 0 94 (dk_at dksJ11_hugeLength_0 21 rfl rfl)
theorem dJ11_hugeLength_24 : decode cJ11_hugeLength 24 = .ok (.iload_n 0, 1) := dk_26 (dk_at dksJ11_hugeLength_1 0 rfl rfl)
theorem dJ11_hugeLength_25 : decode cJ11_hugeLength 25 = .ok (.invokevirtual 98, 3) := dk_182 0 98 (dk_at dksJ11_hugeLength_1 1 rfl rfl)
theorem dJ11_hugeLength_28 : decode cJ11_hugeLength 28 = .ok (.ldc 208, 2) := dk_18 208 (dk_at dksJ11_hugeLength_1 4 rfl rfl)
theorem dJ11_hugeLength_30 : decode cJ11_hugeLength 30 = .ok (.invokevirtual 94, 3) := dk_182 0 94 (dk_at dksJ11_hugeLength_1 6 rfl rfl)
theorem dJ11_hugeLength_33 : decode cJ11_hugeLength 33 = .ok (.iload_n 1, 1) := dk_27 (dk_at dksJ11_hugeLength_1 9 rfl rfl)
theorem dJ11_hugeLength_34 : decode cJ11_hugeLength 34 = .ok (.invokevirtual 98, 3) := dk_182 0 98 (dk_at dksJ11_hugeLength_1 10 rfl rfl)
theorem dJ11_hugeLength_37 : decode cJ11_hugeLength 37 = .ok (.ldc 210, 2) := dk_18 210 (dk_at dksJ11_hugeLength_1 13 rfl rfl)
theorem dJ11_hugeLength_39 : decode cJ11_hugeLength 39 = .ok (.invokevirtual 94, 3) := dk_182 0 94 (dk_at dksJ11_hugeLength_1 15 rfl rfl)
theorem dJ11_hugeLength_42 : decode cJ11_hugeLength 42 = .ok (.invokevirtual 101, 3) := dk_182 0 101 (dk_at dksJ11_hugeLength_1 18 rfl rfl)
theorem dJ11_hugeLength_45 : decode cJ11_hugeLength 45 = .ok (.invokespecial 212, 3) := dk_183 0 212 (dk_at dksJ11_hugeLength_1 21 rfl rfl)
theorem dJ11_hugeLength_48 : decode cJ11_hugeLength 48 = .ok (.athrow, 1) := dk_191 (dk_at dksJ11_hugeLength_2 0 rfl rfl)
theorem dJ11_hugeLength_49 : decode cJ11_hugeLength 49 = .ok (.iload_n 2, 1) := dk_28 (dk_at dksJ11_hugeLength_2 1 rfl rfl)
theorem dJ11_hugeLength_50 : decode cJ11_hugeLength 50 = .ok (.ldc 200, 2) := dk_18 200 (dk_at dksJ11_hugeLength_2 2 rfl rfl)
theorem dJ11_hugeLength_52 : decode cJ11_hugeLength 52 = .ok (.if_icmp .gt 6, 3) := dk_163 0 6 (dk_at dksJ11_hugeLength_2 4 rfl rfl)
theorem dJ11_hugeLength_55 : decode cJ11_hugeLength 55 = .ok (.ldc 200, 2) := dk_18 200 (dk_at dksJ11_hugeLength_2 7 rfl rfl)
theorem dJ11_hugeLength_57 : decode cJ11_hugeLength 57 = .ok (.ireturn, 1) := dk_172 (dk_at dksJ11_hugeLength_2 9 rfl rfl)
theorem dJ11_hugeLength_58 : decode cJ11_hugeLength 58 = .ok (.iload_n 2, 1) := dk_28 (dk_at dksJ11_hugeLength_2 10 rfl rfl)
theorem dJ11_hugeLength_59 : decode cJ11_hugeLength 59 = .ok (.ireturn, 1) := dk_172 (dk_at dksJ11_hugeLength_2 11 rfl rfl)
theorem q153 : (Jvm.Cond.initialized "jdk/internal/util/ArraysSupport") ∈ lw_all := lw_g (lw_at lw_m1 21 rfl) rfl
theorem q902 : (Jvm.Cond.static ({ cls := "jdk/internal/util/ArraysSupport", name := "newLength", desc := "(III)I" } : Jvm.MethodName)) ∈ lw_all := lw_g (lw_at lw_m4 50 rfl) rfl
theorem q903 : (Jvm.Cond.code ({ cls := "jdk/internal/util/ArraysSupport", name := "newLength", desc := "(III)I" } : Jvm.MethodName) prog_44_method_27_code (4 : Nat) (Option.some Jvm.ClassFile.FieldType.int)) ∈ lw_all := lw_g (lw_at lw_m4 51 rfl) rfl
theorem q904 : (Jvm.Cond.methodLink "jdk/internal/util/ArraysSupport" (194 : Nat) ({ cls := "java/lang/Math", name := "max", desc := "(II)I" } : Jvm.MethodName)) ∈ lw_all := lw_g (lw_at lw_m4 52 rfl) rfl
theorem q907 : (Jvm.Cond.constant "jdk/internal/util/ArraysSupport" (200 : Nat) (2147483639 : Int32)) ∈ lw_all := lw_g (lw_at lw_m4 55 rfl) rfl
theorem q908 : (Jvm.Cond.methodLink "jdk/internal/util/ArraysSupport" (201 : Nat) ({ cls := "jdk/internal/util/ArraysSupport", name := "hugeLength", desc := "(II)I" } : Jvm.MethodName)) ∈ lw_all := lw_g (lw_at lw_m4 56 rfl) rfl
theorem q909 : (Jvm.Cond.static ({ cls := "jdk/internal/util/ArraysSupport", name := "hugeLength", desc := "(II)I" } : Jvm.MethodName)) ∈ lw_all := lw_g (lw_at lw_m4 57 rfl) rfl
theorem q910 : (Jvm.Cond.code ({ cls := "jdk/internal/util/ArraysSupport", name := "hugeLength", desc := "(II)I" } : Jvm.MethodName) prog_44_method_28_code (3 : Nat) (Option.some Jvm.ClassFile.FieldType.int)) ∈ lw_all := lw_g (lw_at lw_m4 58 rfl) rfl

/-! java/util/Arrays -/
set_option maxRecDepth 100000
def RJ12 : String := "java/util/Arrays"
abbrev cJ12_copyOf : ByteArray := prog_38_method_119_code
def yJ12_copyOf : MethodName := ⟨RJ12, "copyOf", "([Ljava/lang/Object;I)[Ljava/lang/Object;"⟩
def dkwJ12_copyOf_0 : List UInt8 := [42, 27, 42, 182, 0, 86, 184, 1, 44, 176]
abbrev dktJ12_copyOf_0 : List UInt8 := dkwJ12_copyOf_0 ++ []
theorem dksJ12_copyOf_0 : cJ12_copyOf.data.toList.drop 0 = dktJ12_copyOf_0 := by decide +kernel
theorem dJ12_copyOf_0 : decode cJ12_copyOf 0 = .ok (.aload_n 0, 1) := dk_42 (dk_at dksJ12_copyOf_0 0 rfl rfl)
theorem dJ12_copyOf_1 : decode cJ12_copyOf 1 = .ok (.iload_n 1, 1) := dk_27 (dk_at dksJ12_copyOf_0 1 rfl rfl)
theorem dJ12_copyOf_2 : decode cJ12_copyOf 2 = .ok (.aload_n 0, 1) := dk_42 (dk_at dksJ12_copyOf_0 2 rfl rfl)
theorem dJ12_copyOf_3 : decode cJ12_copyOf 3 = .ok (.invokevirtual 86, 3) := dk_182 0 86 (dk_at dksJ12_copyOf_0 3 rfl rfl)
theorem dJ12_copyOf_6 : decode cJ12_copyOf 6 = .ok (.invokestatic 300, 3) := dk_184 1 44 (dk_at dksJ12_copyOf_0 6 rfl rfl)
theorem dJ12_copyOf_9 : decode cJ12_copyOf 9 = .ok (.areturn, 1) := dk_176 (dk_at dksJ12_copyOf_0 9 rfl rfl)
abbrev cJ12_copyOf_2 : ByteArray := prog_38_method_120_code
def yJ12_copyOf_2 : MethodName := ⟨RJ12, "copyOf", "([Ljava/lang/Object;ILjava/lang/Class;)[Ljava/lang/Object;"⟩
def dkwJ12_copyOf_2_1 : List UInt8 := [78, 42, 3, 45, 3, 42, 190, 27, 184, 1, 48, 184, 0, 150, 45, 176]
abbrev dktJ12_copyOf_2_1 : List UInt8 := dkwJ12_copyOf_2_1 ++ []
def dkwJ12_copyOf_2_0 : List UInt8 := [44, 18, 110, 166, 0, 10, 27, 189, 0, 2, 167, 0, 14, 44, 182, 0, 90, 27, 184, 0, 95, 192, 0, 110]
abbrev dktJ12_copyOf_2_0 : List UInt8 := dkwJ12_copyOf_2_0 ++ dktJ12_copyOf_2_1
theorem dksJ12_copyOf_2_0 : cJ12_copyOf_2.data.toList.drop 0 = dktJ12_copyOf_2_0 := by decide +kernel
theorem dksJ12_copyOf_2_1 : cJ12_copyOf_2.data.toList.drop 24 = dktJ12_copyOf_2_1 := dk_seg dksJ12_copyOf_2_0 24 rfl rfl
theorem dJ12_copyOf_2_0 : decode cJ12_copyOf_2 0 = .ok (.aload_n 2, 1) := dk_44 (dk_at dksJ12_copyOf_2_0 0 rfl rfl)
theorem dJ12_copyOf_2_1 : decode cJ12_copyOf_2 1 = .ok (.ldc 110, 2) := dk_18 110 (dk_at dksJ12_copyOf_2_0 1 rfl rfl)
theorem dJ12_copyOf_2_3 : decode cJ12_copyOf_2 3 = .ok (.if_acmp .ne 10, 3) := dk_166 0 10 (dk_at dksJ12_copyOf_2_0 3 rfl rfl)
theorem dJ12_copyOf_2_6 : decode cJ12_copyOf_2 6 = .ok (.iload_n 1, 1) := dk_27 (dk_at dksJ12_copyOf_2_0 6 rfl rfl)
theorem dJ12_copyOf_2_7 : decode cJ12_copyOf_2 7 = .ok (.anewarray 2, 3) := dk_189 0 2 (dk_at dksJ12_copyOf_2_0 7 rfl rfl)
theorem dJ12_copyOf_2_10 : decode cJ12_copyOf_2 10 = .ok (.goto 14, 3) := dk_167 0 14 (dk_at dksJ12_copyOf_2_0 10 rfl rfl)
theorem dJ12_copyOf_2_13 : decode cJ12_copyOf_2 13 = .ok (.aload_n 2, 1) := dk_44 (dk_at dksJ12_copyOf_2_0 13 rfl rfl)
theorem dJ12_copyOf_2_14 : decode cJ12_copyOf_2 14 = .ok (.invokevirtual 90, 3) := dk_182 0 90 (dk_at dksJ12_copyOf_2_0 14 rfl rfl)
theorem dJ12_copyOf_2_17 : decode cJ12_copyOf_2 17 = .ok (.iload_n 1, 1) := dk_27 (dk_at dksJ12_copyOf_2_0 17 rfl rfl)
theorem dJ12_copyOf_2_18 : decode cJ12_copyOf_2 18 = .ok (.invokestatic 95, 3) := dk_184 0 95 (dk_at dksJ12_copyOf_2_0 18 rfl rfl)
theorem dJ12_copyOf_2_21 : decode cJ12_copyOf_2 21 = .ok (.checkcast 110, 3) := dk_192 0 110 (dk_at dksJ12_copyOf_2_0 21 rfl rfl)
theorem dJ12_copyOf_2_24 : decode cJ12_copyOf_2 24 = .ok (.astore_n 3, 1) := dk_78 (dk_at dksJ12_copyOf_2_1 0 rfl rfl)
theorem dJ12_copyOf_2_25 : decode cJ12_copyOf_2 25 = .ok (.aload_n 0, 1) := dk_42 (dk_at dksJ12_copyOf_2_1 1 rfl rfl)
theorem dJ12_copyOf_2_26 : decode cJ12_copyOf_2 26 = .ok (.iconst 0, 1) := dk_3 (dk_at dksJ12_copyOf_2_1 2 rfl rfl)
theorem dJ12_copyOf_2_27 : decode cJ12_copyOf_2 27 = .ok (.aload_n 3, 1) := dk_45 (dk_at dksJ12_copyOf_2_1 3 rfl rfl)
theorem dJ12_copyOf_2_28 : decode cJ12_copyOf_2 28 = .ok (.iconst 0, 1) := dk_3 (dk_at dksJ12_copyOf_2_1 4 rfl rfl)
theorem dJ12_copyOf_2_29 : decode cJ12_copyOf_2 29 = .ok (.aload_n 0, 1) := dk_42 (dk_at dksJ12_copyOf_2_1 5 rfl rfl)
theorem dJ12_copyOf_2_30 : decode cJ12_copyOf_2 30 = .ok (.arraylength, 1) := dk_190 (dk_at dksJ12_copyOf_2_1 6 rfl rfl)
theorem dJ12_copyOf_2_31 : decode cJ12_copyOf_2 31 = .ok (.iload_n 1, 1) := dk_27 (dk_at dksJ12_copyOf_2_1 7 rfl rfl)
theorem dJ12_copyOf_2_32 : decode cJ12_copyOf_2 32 = .ok (.invokestatic 304, 3) := dk_184 1 48 (dk_at dksJ12_copyOf_2_1 8 rfl rfl)
theorem dJ12_copyOf_2_35 : decode cJ12_copyOf_2 35 = .ok (.invokestatic 150, 3) := dk_184 0 150 (dk_at dksJ12_copyOf_2_1 11 rfl rfl)
theorem dJ12_copyOf_2_38 : decode cJ12_copyOf_2 38 = .ok (.aload_n 3, 1) := dk_45 (dk_at dksJ12_copyOf_2_1 14 rfl rfl)
theorem dJ12_copyOf_2_39 : decode cJ12_copyOf_2 39 = .ok (.areturn, 1) := dk_176 (dk_at dksJ12_copyOf_2_1 15 rfl rfl)
abbrev cJ12_fill : ByteArray := prog_38_method_103_code
def yJ12_fill : MethodName := ⟨RJ12, "fill", "([II)V"⟩
def dkwJ12_fill_0 : List UInt8 := [3, 61, 42, 190, 62, 28, 29, 162, 0, 13, 42, 28, 27, 79, 132, 2, 1, 167, 255, 244, 177]
abbrev dktJ12_fill_0 : List UInt8 := dkwJ12_fill_0 ++ []
theorem dksJ12_fill_0 : cJ12_fill.data.toList.drop 0 = dktJ12_fill_0 := by decide +kernel
theorem dJ12_fill_0 : decode cJ12_fill 0 = .ok (.iconst 0, 1) := dk_3 (dk_at dksJ12_fill_0 0 rfl rfl)
theorem dJ12_fill_1 : decode cJ12_fill 1 = .ok (.istore_n 2, 1) := dk_61 (dk_at dksJ12_fill_0 1 rfl rfl)
theorem dJ12_fill_2 : decode cJ12_fill 2 = .ok (.aload_n 0, 1) := dk_42 (dk_at dksJ12_fill_0 2 rfl rfl)
theorem dJ12_fill_3 : decode cJ12_fill 3 = .ok (.arraylength, 1) := dk_190 (dk_at dksJ12_fill_0 3 rfl rfl)
theorem dJ12_fill_4 : decode cJ12_fill 4 = .ok (.istore_n 3, 1) := dk_62 (dk_at dksJ12_fill_0 4 rfl rfl)
theorem dJ12_fill_5 : decode cJ12_fill 5 = .ok (.iload_n 2, 1) := dk_28 (dk_at dksJ12_fill_0 5 rfl rfl)
theorem dJ12_fill_6 : decode cJ12_fill 6 = .ok (.iload_n 3, 1) := dk_29 (dk_at dksJ12_fill_0 6 rfl rfl)
theorem dJ12_fill_7 : decode cJ12_fill 7 = .ok (.if_icmp .ge 13, 3) := dk_162 0 13 (dk_at dksJ12_fill_0 7 rfl rfl)
theorem dJ12_fill_10 : decode cJ12_fill 10 = .ok (.aload_n 0, 1) := dk_42 (dk_at dksJ12_fill_0 10 rfl rfl)
theorem dJ12_fill_11 : decode cJ12_fill 11 = .ok (.iload_n 2, 1) := dk_28 (dk_at dksJ12_fill_0 11 rfl rfl)
theorem dJ12_fill_12 : decode cJ12_fill 12 = .ok (.iload_n 1, 1) := dk_27 (dk_at dksJ12_fill_0 12 rfl rfl)
theorem dJ12_fill_13 : decode cJ12_fill 13 = .ok (.iastore, 1) := dk_79 (dk_at dksJ12_fill_0 13 rfl rfl)
theorem dJ12_fill_14 : decode cJ12_fill 14 = .ok (.iinc 2 1, 3) := dk_132 2 1 (dk_at dksJ12_fill_0 14 rfl rfl)
theorem dJ12_fill_17 : decode cJ12_fill 17 = .ok (.goto (-12), 3) := dk_167 255 244 (dk_at dksJ12_fill_0 17 rfl rfl)
theorem dJ12_fill_20 : decode cJ12_fill 20 = .ok (.return_, 1) := dk_177 (dk_at dksJ12_fill_0 20 rfl rfl)
theorem q154 : (Jvm.Cond.initialized "java/util/Arrays") ∈ lw_all := lw_g (lw_at lw_m1 22 rfl) rfl
theorem q912 : (Jvm.Cond.static ({ cls := "java/util/Arrays", name := "copyOf", desc := "([Ljava/lang/Object;I)[Ljava/lang/Object;" } : Jvm.MethodName)) ∈ lw_all := lw_g (lw_at lw_m4 60 rfl) rfl
theorem q913 : (Jvm.Cond.code ({ cls := "java/util/Arrays", name := "copyOf", desc := "([Ljava/lang/Object;I)[Ljava/lang/Object;" } : Jvm.MethodName) prog_38_method_119_code (2 : Nat) (Option.some (Jvm.ClassFile.FieldType.array (Jvm.ClassFile.FieldType.object "java/lang/Object")))) ∈ lw_all := lw_g (lw_at lw_m4 61 rfl) rfl
theorem q914 : (Jvm.Cond.methodLink "java/util/Arrays" (86 : Nat) ({ cls := "java/lang/Object", name := "getClass", desc := "()Ljava/lang/Class;" } : Jvm.MethodName)) ∈ lw_all := lw_g (lw_at lw_m4 62 rfl) rfl
theorem q935 : (Jvm.Cond.methodLink "java/util/Arrays" (300 : Nat) ({ cls := "java/util/Arrays", name := "copyOf", desc := "([Ljava/lang/Object;ILjava/lang/Class;)[Ljava/lang/Object;" } : Jvm.MethodName)) ∈ lw_all := lw_g (lw_at lw_m4 83 rfl) rfl
theorem q936 : (Jvm.Cond.static ({ cls := "java/util/Arrays", name := "copyOf", desc := "([Ljava/lang/Object;ILjava/lang/Class;)[Ljava/lang/Object;" } : Jvm.MethodName)) ∈ lw_all := lw_g (lw_at lw_m4 84 rfl) rfl
theorem q937 : (Jvm.Cond.code ({ cls := "java/util/Arrays", name := "copyOf", desc := "([Ljava/lang/Object;ILjava/lang/Class;)[Ljava/lang/Object;" } : Jvm.MethodName) prog_38_method_120_code (4 : Nat) (Option.some (Jvm.ClassFile.FieldType.array (Jvm.ClassFile.FieldType.object "java/lang/Object")))) ∈ lw_all := lw_g (lw_at lw_m4 85 rfl) rfl
theorem q938 : (Jvm.Cond.classLink "java/util/Arrays" (110 : Nat) "[Ljava/lang/Object;") ∈ lw_all := lw_g (lw_at lw_m4 86 rfl) rfl
theorem q939 : (Jvm.Cond.classLink "java/util/Arrays" (2 : Nat) "java/lang/Object") ∈ lw_all := lw_g (lw_at lw_m4 87 rfl) rfl
theorem q940 : (Jvm.Cond.methodLink "java/util/Arrays" (304 : Nat) ({ cls := "java/lang/Math", name := "min", desc := "(II)I" } : Jvm.MethodName)) ∈ lw_all := lw_g (lw_at lw_m4 88 rfl) rfl
theorem q941 : (Jvm.Cond.methodLink "java/util/Arrays" (150 : Nat) ({ cls := "java/lang/System", name := "arraycopy", desc := "(Ljava/lang/Object;ILjava/lang/Object;II)V" } : Jvm.MethodName)) ∈ lw_all := lw_g (lw_at lw_m4 89 rfl) rfl
theorem q1057 : (Jvm.Cond.static ({ cls := "java/util/Arrays", name := "fill", desc := "([II)V" } : Jvm.MethodName)) ∈ lw_all := lw_g (lw_at lw_m4 205 rfl) rfl
theorem q1058 : (Jvm.Cond.code ({ cls := "java/util/Arrays", name := "fill", desc := "([II)V" } : Jvm.MethodName) prog_38_method_103_code (4 : Nat) (Option.none : Option Jvm.ClassFile.FieldType)) ∈ lw_all := lw_g (lw_at lw_m4 206 rfl) rfl

/-! java/util/Objects -/
set_option maxRecDepth 100000
def RJ13 : String := "java/util/Objects"
abbrev cJ13_checkIndex : ByteArray := prog_41_method_17_code
def yJ13_checkIndex : MethodName := ⟨RJ13, "checkIndex", "(II)I"⟩
def dkwJ13_checkIndex_0 : List UInt8 := [26, 27, 1, 184, 0, 105, 172]
abbrev dktJ13_checkIndex_0 : List UInt8 := dkwJ13_checkIndex_0 ++ []
theorem dksJ13_checkIndex_0 : cJ13_checkIndex.data.toList.drop 0 = dktJ13_checkIndex_0 := by decide +kernel
theorem dJ13_checkIndex_0 : decode cJ13_checkIndex 0 = .ok (.iload_n 0, 1) := dk_26 (dk_at dksJ13_checkIndex_0 0 rfl rfl)
theorem dJ13_checkIndex_1 : decode cJ13_checkIndex 1 = .ok (.iload_n 1, 1) := dk_27 (dk_at dksJ13_checkIndex_0 1 rfl rfl)
theorem dJ13_checkIndex_2 : decode cJ13_checkIndex 2 = .ok (.aconst_null, 1) := dk_1 (dk_at dksJ13_checkIndex_0 2 rfl rfl)
theorem dJ13_checkIndex_3 : decode cJ13_checkIndex 3 = .ok (.invokestatic 105, 3) := dk_184 0 105 (dk_at dksJ13_checkIndex_0 3 rfl rfl)
theorem dJ13_checkIndex_6 : decode cJ13_checkIndex 6 = .ok (.ireturn, 1) := dk_172 (dk_at dksJ13_checkIndex_0 6 rfl rfl)
theorem q158 : (Jvm.Cond.initialized "java/util/Objects") ∈ lw_all := lw_g (lw_at lw_m1 26 rfl) rfl
theorem q1044 : (Jvm.Cond.static ({ cls := "java/util/Objects", name := "checkIndex", desc := "(II)I" } : Jvm.MethodName)) ∈ lw_all := lw_g (lw_at lw_m4 192 rfl) rfl
theorem q1045 : (Jvm.Cond.code ({ cls := "java/util/Objects", name := "checkIndex", desc := "(II)I" } : Jvm.MethodName) prog_41_method_17_code (2 : Nat) (Option.some Jvm.ClassFile.FieldType.int)) ∈ lw_all := lw_g (lw_at lw_m4 193 rfl) rfl
theorem q1046 : (Jvm.Cond.methodLink "java/util/Objects" (105 : Nat) ({ cls := "jdk/internal/util/Preconditions", name := "checkIndex", desc := "(IILjava/util/function/BiFunction;)I" } : Jvm.MethodName)) ∈ lw_all := lw_g (lw_at lw_m4 194 rfl) rfl

/-! java/lang/Integer -/
set_option maxRecDepth 100000
def RJ14 : String := "java/lang/Integer"
abbrev cJ14_bitCount : ByteArray := prog_22_method_49_code
def yJ14_bitCount : MethodName := ⟨RJ14, "bitCount", "(I)I"⟩
def dkwJ14_bitCount_2 : List UInt8 := [26, 16, 63, 126, 172]
abbrev dktJ14_bitCount_2 : List UInt8 := dkwJ14_bitCount_2 ++ []
def dkwJ14_bitCount_1 : List UInt8 := [26, 26, 7, 124, 96, 19, 1, 11, 126, 59, 26, 26, 16, 8, 124, 96, 59, 26, 26, 16, 16, 124, 96, 59]
abbrev dktJ14_bitCount_1 : List UInt8 := dkwJ14_bitCount_1 ++ dktJ14_bitCount_2
def dkwJ14_bitCount_0 : List UInt8 := [26, 26, 4, 124, 19, 1, 9, 126, 100, 59, 26, 19, 1, 10, 126, 26, 5, 124, 19, 1, 10, 126, 96, 59]
abbrev dktJ14_bitCount_0 : List UInt8 := dkwJ14_bitCount_0 ++ dktJ14_bitCount_1
theorem dksJ14_bitCount_0 : cJ14_bitCount.data.toList.drop 0 = dktJ14_bitCount_0 := by decide +kernel
theorem dksJ14_bitCount_1 : cJ14_bitCount.data.toList.drop 24 = dktJ14_bitCount_1 := dk_seg dksJ14_bitCount_0 24 rfl rfl
theorem dksJ14_bitCount_2 : cJ14_bitCount.data.toList.drop 48 = dktJ14_bitCount_2 := dk_seg dksJ14_bitCount_1 24 rfl rfl
theorem dJ14_bitCount_0 : decode cJ14_bitCount 0 = .ok (.iload_n 0, 1) := dk_26 (dk_at dksJ14_bitCount_0 0 rfl rfl)
theorem dJ14_bitCount_1 : decode cJ14_bitCount 1 = .ok (.iload_n 0, 1) := dk_26 (dk_at dksJ14_bitCount_0 1 rfl rfl)
theorem dJ14_bitCount_2 : decode cJ14_bitCount 2 = .ok (.iconst 1, 1) := dk_4 (dk_at dksJ14_bitCount_0 2 rfl rfl)
theorem dJ14_bitCount_3 : decode cJ14_bitCount 3 = .ok (.iushr, 1) := dk_124 (dk_at dksJ14_bitCount_0 3 rfl rfl)
theorem dJ14_bitCount_4 : decode cJ14_bitCount 4 = .ok (.ldc_w 265, 3) := dk_19 1 9 (dk_at dksJ14_bitCount_0 4 rfl rfl)
theorem dJ14_bitCount_7 : decode cJ14_bitCount 7 = .ok (.iand, 1) := dk_126 (dk_at dksJ14_bitCount_0 7 rfl rfl)
theorem dJ14_bitCount_8 : decode cJ14_bitCount 8 = .ok (.isub, 1) := dk_100 (dk_at dksJ14_bitCount_0 8 rfl rfl)
theorem dJ14_bitCount_9 : decode cJ14_bitCount 9 = .ok (.istore_n 0, 1) := dk_59 (dk_at dksJ14_bitCount_0 9 rfl rfl)
theorem dJ14_bitCount_10 : decode cJ14_bitCount 10 = .ok (.iload_n 0, 1) := dk_26 (dk_at dksJ14_bitCount_0 10 rfl rfl)
theorem dJ14_bitCount_11 : decode cJ14_bitCount 11 = .ok (.ldc_w 266, 3) := dk_19 1 10 (dk_at dksJ14_bitCount_0 11 rfl rfl)
theorem dJ14_bitCount_14 : decode cJ14_bitCount 14 = .ok (.iand, 1) := dk_126 (dk_at dksJ14_bitCount_0 14 rfl rfl)
theorem dJ14_bitCount_15 : decode cJ14_bitCount 15 = .ok (.iload_n 0, 1) := dk_26 (dk_at dksJ14_bitCount_0 15 rfl rfl)
theorem dJ14_bitCount_16 : decode cJ14_bitCount 16 = .ok (.iconst 2, 1) := dk_5 (dk_at dksJ14_bitCount_0 16 rfl rfl)
theorem dJ14_bitCount_17 : decode cJ14_bitCount 17 = .ok (.iushr, 1) := dk_124 (dk_at dksJ14_bitCount_0 17 rfl rfl)
theorem dJ14_bitCount_18 : decode cJ14_bitCount 18 = .ok (.ldc_w 266, 3) := dk_19 1 10 (dk_at dksJ14_bitCount_0 18 rfl rfl)
theorem dJ14_bitCount_21 : decode cJ14_bitCount 21 = .ok (.iand, 1) := dk_126 (dk_at dksJ14_bitCount_0 21 rfl rfl)
theorem dJ14_bitCount_22 : decode cJ14_bitCount 22 = .ok (.iadd, 1) := dk_96 (dk_at dksJ14_bitCount_0 22 rfl rfl)
theorem dJ14_bitCount_23 : decode cJ14_bitCount 23 = .ok (.istore_n 0, 1) := dk_59 (dk_at dksJ14_bitCount_0 23 rfl rfl)
theorem dJ14_bitCount_24 : decode cJ14_bitCount 24 = .ok (.iload_n 0, 1) := dk_26 (dk_at dksJ14_bitCount_1 0 rfl rfl)
theorem dJ14_bitCount_25 : decode cJ14_bitCount 25 = .ok (.iload_n 0, 1) := dk_26 (dk_at dksJ14_bitCount_1 1 rfl rfl)
theorem dJ14_bitCount_26 : decode cJ14_bitCount 26 = .ok (.iconst 4, 1) := dk_7 (dk_at dksJ14_bitCount_1 2 rfl rfl)
theorem dJ14_bitCount_27 : decode cJ14_bitCount 27 = .ok (.iushr, 1) := dk_124 (dk_at dksJ14_bitCount_1 3 rfl rfl)
theorem dJ14_bitCount_28 : decode cJ14_bitCount 28 = .ok (.iadd, 1) := dk_96 (dk_at dksJ14_bitCount_1 4 rfl rfl)
theorem dJ14_bitCount_29 : decode cJ14_bitCount 29 = .ok (.ldc_w 267, 3) := dk_19 1 11 (dk_at dksJ14_bitCount_1 5 rfl rfl)
theorem dJ14_bitCount_32 : decode cJ14_bitCount 32 = .ok (.iand, 1) := dk_126 (dk_at dksJ14_bitCount_1 8 rfl rfl)
theorem dJ14_bitCount_33 : decode cJ14_bitCount 33 = .ok (.istore_n 0, 1) := dk_59 (dk_at dksJ14_bitCount_1 9 rfl rfl)
theorem dJ14_bitCount_34 : decode cJ14_bitCount 34 = .ok (.iload_n 0, 1) := dk_26 (dk_at dksJ14_bitCount_1 10 rfl rfl)
theorem dJ14_bitCount_35 : decode cJ14_bitCount 35 = .ok (.iload_n 0, 1) := dk_26 (dk_at dksJ14_bitCount_1 11 rfl rfl)
theorem dJ14_bitCount_36 : decode cJ14_bitCount 36 = .ok (.bipush 8, 2) := dk_16 8 (dk_at dksJ14_bitCount_1 12 rfl rfl)
theorem dJ14_bitCount_38 : decode cJ14_bitCount 38 = .ok (.iushr, 1) := dk_124 (dk_at dksJ14_bitCount_1 14 rfl rfl)
theorem dJ14_bitCount_39 : decode cJ14_bitCount 39 = .ok (.iadd, 1) := dk_96 (dk_at dksJ14_bitCount_1 15 rfl rfl)
theorem dJ14_bitCount_40 : decode cJ14_bitCount 40 = .ok (.istore_n 0, 1) := dk_59 (dk_at dksJ14_bitCount_1 16 rfl rfl)
theorem dJ14_bitCount_41 : decode cJ14_bitCount 41 = .ok (.iload_n 0, 1) := dk_26 (dk_at dksJ14_bitCount_1 17 rfl rfl)
theorem dJ14_bitCount_42 : decode cJ14_bitCount 42 = .ok (.iload_n 0, 1) := dk_26 (dk_at dksJ14_bitCount_1 18 rfl rfl)
theorem dJ14_bitCount_43 : decode cJ14_bitCount 43 = .ok (.bipush 16, 2) := dk_16 16 (dk_at dksJ14_bitCount_1 19 rfl rfl)
theorem dJ14_bitCount_45 : decode cJ14_bitCount 45 = .ok (.iushr, 1) := dk_124 (dk_at dksJ14_bitCount_1 21 rfl rfl)
theorem dJ14_bitCount_46 : decode cJ14_bitCount 46 = .ok (.iadd, 1) := dk_96 (dk_at dksJ14_bitCount_1 22 rfl rfl)
theorem dJ14_bitCount_47 : decode cJ14_bitCount 47 = .ok (.istore_n 0, 1) := dk_59 (dk_at dksJ14_bitCount_1 23 rfl rfl)
theorem dJ14_bitCount_48 : decode cJ14_bitCount 48 = .ok (.iload_n 0, 1) := dk_26 (dk_at dksJ14_bitCount_2 0 rfl rfl)
theorem dJ14_bitCount_49 : decode cJ14_bitCount 49 = .ok (.bipush 63, 2) := dk_16 63 (dk_at dksJ14_bitCount_2 1 rfl rfl)
theorem dJ14_bitCount_51 : decode cJ14_bitCount 51 = .ok (.iand, 1) := dk_126 (dk_at dksJ14_bitCount_2 3 rfl rfl)
theorem dJ14_bitCount_52 : decode cJ14_bitCount 52 = .ok (.ireturn, 1) := dk_172 (dk_at dksJ14_bitCount_2 4 rfl rfl)
theorem q159 : (Jvm.Cond.initialized "java/lang/Integer") ∈ lw_all := lw_g (lw_at lw_m1 27 rfl) rfl
theorem q1389 : (Jvm.Cond.static ({ cls := "java/lang/Integer", name := "bitCount", desc := "(I)I" } : Jvm.MethodName)) ∈ lw_all := lw_g (lw_at lw_m6 57 rfl) rfl
theorem q1390 : (Jvm.Cond.code ({ cls := "java/lang/Integer", name := "bitCount", desc := "(I)I" } : Jvm.MethodName) prog_22_method_49_code (1 : Nat) (Option.some Jvm.ClassFile.FieldType.int)) ∈ lw_all := lw_g (lw_at lw_m6 58 rfl) rfl
theorem q1391 : (Jvm.Cond.constant "java/lang/Integer" (265 : Nat) (1431655765 : Int32)) ∈ lw_all := lw_g (lw_at lw_m6 59 rfl) rfl
theorem q1392 : (Jvm.Cond.constant "java/lang/Integer" (266 : Nat) (858993459 : Int32)) ∈ lw_all := lw_g (lw_at lw_m6 60 rfl) rfl
theorem q1393 : (Jvm.Cond.constant "java/lang/Integer" (267 : Nat) (252645135 : Int32)) ∈ lw_all := lw_g (lw_at lw_m6 61 rfl) rfl

/-! java/lang/NegativeArraySizeException -/
set_option maxRecDepth 100000
def RJ15 : String := "java/lang/NegativeArraySizeException"
def TJ15 : u_T := fun k => match k with
  | 0 => ("java/lang/Throwable", "backtrace", "Ljava/lang/Object;", false)
  | 1 => ("java/lang/Throwable", "detailMessage", "Ljava/lang/String;", false)
  | 2 => ("java/lang/Throwable", "cause", "Ljava/lang/Throwable;", false)
  | 3 => ("java/lang/Throwable", "stackTrace", "[Ljava/lang/StackTraceElement;", false)
  | 4 => ("java/lang/Throwable", "depth", "I", false)
  | _ => ("java/lang/Throwable", "suppressedExceptions", "Ljava/util/List;", false)
def tyJ15 : Nat → FieldType := fun k => match k with
  | 0 => .object "java/lang/Object"
  | 1 => .object "java/lang/String"
  | 2 => .object "java/lang/Throwable"
  | 3 => .array (.object "java/lang/StackTraceElement")
  | 4 => .int
  | _ => .object "java/util/List"
abbrev wsJ150 : List Cond := u_ws RJ15 TJ15 6
theorem nmJ15 : ∀ a, a < 6 → ∀ b, b < 6 → a ≠ b → (TJ15 a).2.1 ≠ (TJ15 b).2.1 := by decide +kernel
theorem tyJ15_ok : ∀ k, k < 6 → parseFieldDescriptor (TJ15 k).2.2.1 = some (tyJ15 k) := by decide +kernel
abbrev cJ15_init : ByteArray := prog_25_method_2_code
def yJ15_init : MethodName := ⟨RJ15, "<init>", "(Ljava/lang/String;)V"⟩
def dkwJ15_init_0 : List UInt8 := [42, 43, 183, 0, 7, 177]
abbrev dktJ15_init_0 : List UInt8 := dkwJ15_init_0 ++ []
theorem dksJ15_init_0 : cJ15_init.data.toList.drop 0 = dktJ15_init_0 := by decide +kernel
theorem dJ15_init_0 : decode cJ15_init 0 = .ok (.aload_n 0, 1) := dk_42 (dk_at dksJ15_init_0 0 rfl rfl)
theorem dJ15_init_1 : decode cJ15_init 1 = .ok (.aload_n 1, 1) := dk_43 (dk_at dksJ15_init_0 1 rfl rfl)
theorem dJ15_init_2 : decode cJ15_init 2 = .ok (.invokespecial 7, 3) := dk_183 0 7 (dk_at dksJ15_init_0 2 rfl rfl)
theorem dJ15_init_5 : decode cJ15_init 5 = .ok (.return_, 1) := dk_177 (dk_at dksJ15_init_0 5 rfl rfl)
theorem q161 : (Jvm.Cond.initialized "java/lang/NegativeArraySizeException") ∈ lw_all := lw_g (lw_at lw_m1 29 rfl) rfl
theorem q182 : (Jvm.Cond.instantiable "java/lang/NegativeArraySizeException" (6 : Nat)) ∈ lw_all := lw_g (lw_at lw_m1 50 rfl) rfl
theorem q183 : (Jvm.Cond.instanceMethod ({ cls := "java/lang/NegativeArraySizeException", name := "<init>", desc := "(Ljava/lang/String;)V" } : Jvm.MethodName)) ∈ lw_all := lw_g (lw_at lw_m1 51 rfl) rfl
theorem q184 : (Jvm.Cond.code ({ cls := "java/lang/NegativeArraySizeException", name := "<init>", desc := "(Ljava/lang/String;)V" } : Jvm.MethodName) prog_25_method_2_code (2 : Nat) (Option.none : Option Jvm.ClassFile.FieldType)) ∈ lw_all := lw_g (lw_at lw_m1 52 rfl) rfl
theorem q185 : (Jvm.Cond.methodLink "java/lang/NegativeArraySizeException" (7 : Nat) ({ cls := "java/lang/RuntimeException", name := "<init>", desc := "(Ljava/lang/String;)V" } : Jvm.MethodName)) ∈ lw_all := lw_g (lw_at lw_m1 53 rfl) rfl
theorem q207 : (Jvm.Cond.selects "java/lang/NegativeArraySizeException" ({ cls := "java/lang/Throwable", name := "fillInStackTrace", desc := "()Ljava/lang/Throwable;" } : Jvm.MethodName) ({ cls := "java/lang/Throwable", name := "fillInStackTrace", desc := "()Ljava/lang/Throwable;" } : Jvm.MethodName)) ∈ lw_all := lw_g (lw_at lw_m1 75 rfl) rfl
theorem q233 : (Jvm.Cond.lays "java/lang/NegativeArraySizeException" "java/lang/Throwable" "backtrace" "Ljava/lang/Object;") ∈ lw_all := lw_g (lw_at lw_m1 101 rfl) rfl
theorem q235 : (Jvm.Cond.lays "java/lang/NegativeArraySizeException" "java/lang/Throwable" "detailMessage" "Ljava/lang/String;") ∈ lw_all := lw_g (lw_at lw_m1 103 rfl) rfl
theorem q237 : (Jvm.Cond.lays "java/lang/NegativeArraySizeException" "java/lang/Throwable" "cause" "Ljava/lang/Throwable;") ∈ lw_all := lw_g (lw_at lw_m1 105 rfl) rfl
theorem q239 : (Jvm.Cond.lays "java/lang/NegativeArraySizeException" "java/lang/Throwable" "stackTrace" "[Ljava/lang/StackTraceElement;") ∈ lw_all := lw_g (lw_at lw_m1 107 rfl) rfl
theorem q241 : (Jvm.Cond.lays "java/lang/NegativeArraySizeException" "java/lang/Throwable" "depth" "I") ∈ lw_all := lw_g (lw_at lw_m1 109 rfl) rfl
theorem q243 : (Jvm.Cond.lays "java/lang/NegativeArraySizeException" "java/lang/Throwable" "suppressedExceptions" "Ljava/util/List;") ∈ lw_all := lw_g (lw_at lw_m1 111 rfl) rfl
theorem q245 : (Jvm.Cond.superclass "java/lang/NegativeArraySizeException" "java/lang/RuntimeException") ∈ lw_all := lw_g (lw_at lw_m1 113 rfl) rfl
theorem q246 : (Jvm.Cond.castable "java/lang/NegativeArraySizeException" "java/lang/NegativeArraySizeException") ∈ lw_tbl := lw_at lw_m1 114 rfl
theorem q253 : (Jvm.Cond.selects "java/lang/NegativeArraySizeException" ({ cls := "java/lang/Throwable", name := "fillInStackTrace", desc := "(I)Ljava/lang/Throwable;" } : Jvm.MethodName) ({ cls := "java/lang/Throwable", name := "fillInStackTrace", desc := "(I)Ljava/lang/Throwable;" } : Jvm.MethodName)) ∈ lw_all := lw_g (lw_at lw_m1 121 rfl) rfl
theorem q931 : (Jvm.Cond.selects "java/lang/NegativeArraySizeException" ({ cls := "java/lang/Object", name := "getClass", desc := "()Ljava/lang/Class;" } : Jvm.MethodName) ({ cls := "java/lang/Object", name := "getClass", desc := "()Ljava/lang/Class;" } : Jvm.MethodName)) ∈ lw_all := lw_g (lw_at lw_m4 79 rfl) rfl
theorem q2126 : (Jvm.Cond.castable "java/lang/NegativeArraySizeException" "java/lang/Object") ∈ lw_tbl := lw_at lw_m9 74 rfl
theorem in_J15 : ∀ w ∈ wsJ150, w ∈ lw_all := lw_in wsJ150 [233, 235, 237, 239, 241, 243] (by decide +kernel) (by decide +kernel)

/-! java/lang/NullPointerException -/
set_option maxRecDepth 100000
def RJ16 : String := "java/lang/NullPointerException"
def TJ16 : u_T := fun k => match k with
  | 0 => ("java/lang/Throwable", "backtrace", "Ljava/lang/Object;", false)
  | 1 => ("java/lang/Throwable", "detailMessage", "Ljava/lang/String;", false)
  | 2 => ("java/lang/Throwable", "cause", "Ljava/lang/Throwable;", false)
  | 3 => ("java/lang/Throwable", "stackTrace", "[Ljava/lang/StackTraceElement;", false)
  | 4 => ("java/lang/Throwable", "depth", "I", false)
  | 5 => ("java/lang/Throwable", "suppressedExceptions", "Ljava/util/List;", false)
  | 6 => ("java/lang/NullPointerException", "extendedMessageState", "I", false)
  | _ => ("java/lang/NullPointerException", "extendedMessage", "Ljava/lang/String;", false)
def tyJ16 : Nat → FieldType := fun k => match k with
  | 0 => .object "java/lang/Object"
  | 1 => .object "java/lang/String"
  | 2 => .object "java/lang/Throwable"
  | 3 => .array (.object "java/lang/StackTraceElement")
  | 4 => .int
  | 5 => .object "java/util/List"
  | 6 => .int
  | _ => .object "java/lang/String"
abbrev wsJ160 : List Cond := u_ws RJ16 TJ16 8
theorem nmJ16 : ∀ a, a < 8 → ∀ b, b < 8 → a ≠ b → (TJ16 a).2.1 ≠ (TJ16 b).2.1 := by decide +kernel
theorem tyJ16_ok : ∀ k, k < 8 → parseFieldDescriptor (TJ16 k).2.2.1 = some (tyJ16 k) := by decide +kernel
abbrev cJ16_init : ByteArray := prog_26_method_1_code
def yJ16_init : MethodName := ⟨RJ16, "<init>", "()V"⟩
theorem dJ16_init_0 : decode cJ16_init 0 = .ok (.aload_n 0, 1) := by decide +kernel
theorem dJ16_init_1 : decode cJ16_init 1 = .ok (.invokespecial 1, 3) := by decide +kernel
theorem dJ16_init_4 : decode cJ16_init 4 = .ok (.return_, 1) := by decide +kernel
theorem q162 : (Jvm.Cond.initialized "java/lang/NullPointerException") ∈ lw_all := lw_g (lw_at lw_m1 30 rfl) rfl
theorem q208 : (Jvm.Cond.selects "java/lang/NullPointerException" ({ cls := "java/lang/Throwable", name := "fillInStackTrace", desc := "()Ljava/lang/Throwable;" } : Jvm.MethodName) ({ cls := "java/lang/NullPointerException", name := "fillInStackTrace", desc := "()Ljava/lang/Throwable;" } : Jvm.MethodName)) ∈ lw_all := lw_g (lw_at lw_m1 76 rfl) rfl
theorem q209 : (Jvm.Cond.instanceMethod ({ cls := "java/lang/NullPointerException", name := "fillInStackTrace", desc := "()Ljava/lang/Throwable;" } : Jvm.MethodName)) ∈ lw_all := lw_g (lw_at lw_m1 77 rfl) rfl
theorem q210 : (Jvm.Cond.codeSync ({ cls := "java/lang/NullPointerException", name := "fillInStackTrace", desc := "()Ljava/lang/Throwable;" } : Jvm.MethodName) prog_26_method_3_code (1 : Nat) (Option.some (Jvm.ClassFile.FieldType.object "java/lang/Throwable"))) ∈ lw_all := lw_g (lw_at lw_m1 78 rfl) rfl
theorem q211 : (Jvm.Cond.methodLink "java/lang/NullPointerException" (16 : Nat) ({ cls := "java/lang/NullPointerException", name := "getExtendedNPEMessage", desc := "()Ljava/lang/String;" } : Jvm.MethodName)) ∈ lw_all := lw_g (lw_at lw_m1 79 rfl) rfl
theorem q212 : (Jvm.Cond.privateMethod ({ cls := "java/lang/NullPointerException", name := "getExtendedNPEMessage", desc := "()Ljava/lang/String;" } : Jvm.MethodName)) ∈ lw_tbl := lw_at lw_m1 80 rfl
theorem q213 : (Jvm.Cond.instanceMethod ({ cls := "java/lang/NullPointerException", name := "getExtendedNPEMessage", desc := "()Ljava/lang/String;" } : Jvm.MethodName)) ∈ lw_all := lw_g (lw_at lw_m1 81 rfl) rfl
theorem q214 : (Jvm.Cond.instantiable "java/lang/NullPointerException" (8 : Nat)) ∈ lw_all := lw_g (lw_at lw_m1 82 rfl) rfl
theorem q215 : (Jvm.Cond.native ({ cls := "java/lang/NullPointerException", name := "getExtendedNPEMessage", desc := "()Ljava/lang/String;" } : Jvm.MethodName)) ∈ lw_all := lw_g (lw_at lw_m1 83 rfl) rfl
theorem q216 : (Jvm.Cond.methodLink "java/lang/NullPointerException" (24 : Nat) ({ cls := "java/lang/RuntimeException", name := "fillInStackTrace", desc := "()Ljava/lang/Throwable;" } : Jvm.MethodName)) ∈ lw_all := lw_g (lw_at lw_m1 84 rfl) rfl
theorem q219 : (Jvm.Cond.superclass "java/lang/NullPointerException" "java/lang/RuntimeException") ∈ lw_all := lw_g (lw_at lw_m1 87 rfl) rfl
theorem q281 : (Jvm.Cond.instanceMethod ({ cls := "java/lang/NullPointerException", name := "<init>", desc := "()V" } : Jvm.MethodName)) ∈ lw_all := lw_g (lw_at lw_m1 149 rfl) rfl
theorem q282 : (Jvm.Cond.code ({ cls := "java/lang/NullPointerException", name := "<init>", desc := "()V" } : Jvm.MethodName) prog_26_method_1_code (1 : Nat) (Option.none : Option Jvm.ClassFile.FieldType)) ∈ lw_all := lw_g (lw_at lw_m1 150 rfl) rfl
theorem q283 : (Jvm.Cond.methodLink "java/lang/NullPointerException" (1 : Nat) ({ cls := "java/lang/RuntimeException", name := "<init>", desc := "()V" } : Jvm.MethodName)) ∈ lw_all := lw_g (lw_at lw_m1 151 rfl) rfl
theorem q290 : (Jvm.Cond.fieldLink "java/lang/NullPointerException" (10 : Nat) "java/lang/NullPointerException" "extendedMessageState" "I") ∈ lw_all := lw_g (lw_at lw_m1 158 rfl) rfl
theorem q291 : (Jvm.Cond.fieldLink "java/lang/NullPointerException" (20 : Nat) "java/lang/NullPointerException" "extendedMessage" "Ljava/lang/String;") ∈ lw_all := lw_g (lw_at lw_m1 159 rfl) rfl
theorem q292 : (Jvm.Cond.lays "java/lang/NullPointerException" "java/lang/NullPointerException" "extendedMessageState" "I") ∈ lw_all := lw_g (lw_at lw_m1 160 rfl) rfl
theorem q293 : (Jvm.Cond.soleField "java/lang/NullPointerException" "extendedMessageState") ∈ lw_all := lw_g (lw_at lw_m1 161 rfl) rfl
theorem q294 : (Jvm.Cond.lays "java/lang/NullPointerException" "java/lang/NullPointerException" "extendedMessage" "Ljava/lang/String;") ∈ lw_all := lw_g (lw_at lw_m1 162 rfl) rfl
theorem q295 : (Jvm.Cond.soleField "java/lang/NullPointerException" "extendedMessage") ∈ lw_all := lw_g (lw_at lw_m1 163 rfl) rfl
theorem q296 : (Jvm.Cond.lays "java/lang/NullPointerException" "java/lang/Throwable" "backtrace" "Ljava/lang/Object;") ∈ lw_all := lw_g (lw_at lw_m1 164 rfl) rfl
theorem q297 : (Jvm.Cond.lays "java/lang/NullPointerException" "java/lang/Throwable" "detailMessage" "Ljava/lang/String;") ∈ lw_all := lw_g (lw_at lw_m1 165 rfl) rfl
theorem q298 : (Jvm.Cond.lays "java/lang/NullPointerException" "java/lang/Throwable" "cause" "Ljava/lang/Throwable;") ∈ lw_all := lw_g (lw_at lw_m1 166 rfl) rfl
theorem q299 : (Jvm.Cond.lays "java/lang/NullPointerException" "java/lang/Throwable" "stackTrace" "[Ljava/lang/StackTraceElement;") ∈ lw_all := lw_g (lw_at lw_m1 167 rfl) rfl
theorem q300 : (Jvm.Cond.lays "java/lang/NullPointerException" "java/lang/Throwable" "depth" "I") ∈ lw_all := lw_g (lw_at lw_m1 168 rfl) rfl
theorem q301 : (Jvm.Cond.lays "java/lang/NullPointerException" "java/lang/Throwable" "suppressedExceptions" "Ljava/util/List;") ∈ lw_all := lw_g (lw_at lw_m1 169 rfl) rfl
theorem q302 : (Jvm.Cond.castable "java/lang/NullPointerException" "java/lang/NullPointerException") ∈ lw_tbl := lw_at lw_m1 170 rfl
theorem q303 : (Jvm.Cond.selects "java/lang/NullPointerException" ({ cls := "java/lang/Throwable", name := "fillInStackTrace", desc := "(I)Ljava/lang/Throwable;" } : Jvm.MethodName) ({ cls := "java/lang/Throwable", name := "fillInStackTrace", desc := "(I)Ljava/lang/Throwable;" } : Jvm.MethodName)) ∈ lw_all := lw_g (lw_at lw_m1 171 rfl) rfl
theorem q932 : (Jvm.Cond.selects "java/lang/NullPointerException" ({ cls := "java/lang/Object", name := "getClass", desc := "()Ljava/lang/Class;" } : Jvm.MethodName) ({ cls := "java/lang/Object", name := "getClass", desc := "()Ljava/lang/Class;" } : Jvm.MethodName)) ∈ lw_all := lw_g (lw_at lw_m4 80 rfl) rfl
theorem q2127 : (Jvm.Cond.castable "java/lang/NullPointerException" "java/lang/Object") ∈ lw_tbl := lw_at lw_m9 75 rfl
theorem in_J16 : ∀ w ∈ wsJ160, w ∈ lw_all := lw_in wsJ160 [296, 297, 298, 299, 300, 301, 292, 294] (by decide +kernel) (by decide +kernel)

/-! java/lang/IndexOutOfBoundsException -/
set_option maxRecDepth 100000
def RJ17 : String := "java/lang/IndexOutOfBoundsException"
abbrev cJ17_init : ByteArray := prog_21_method_2_code
def yJ17_init : MethodName := ⟨RJ17, "<init>", "(Ljava/lang/String;)V"⟩
def dkwJ17_init_0 : List UInt8 := [42, 43, 183, 0, 7, 177]
abbrev dktJ17_init_0 : List UInt8 := dkwJ17_init_0 ++ []
theorem dksJ17_init_0 : cJ17_init.data.toList.drop 0 = dktJ17_init_0 := by decide +kernel
theorem dJ17_init_0 : decode cJ17_init 0 = .ok (.aload_n 0, 1) := dk_42 (dk_at dksJ17_init_0 0 rfl rfl)
theorem dJ17_init_1 : decode cJ17_init 1 = .ok (.aload_n 1, 1) := dk_43 (dk_at dksJ17_init_0 1 rfl rfl)
theorem dJ17_init_2 : decode cJ17_init 2 = .ok (.invokespecial 7, 3) := dk_183 0 7 (dk_at dksJ17_init_0 2 rfl rfl)
theorem dJ17_init_5 : decode cJ17_init 5 = .ok (.return_, 1) := dk_177 (dk_at dksJ17_init_0 5 rfl rfl)
theorem q163 : (Jvm.Cond.initialized "java/lang/IndexOutOfBoundsException") ∈ lw_all := lw_g (lw_at lw_m1 31 rfl) rfl
theorem q310 : (Jvm.Cond.instanceMethod ({ cls := "java/lang/IndexOutOfBoundsException", name := "<init>", desc := "(Ljava/lang/String;)V" } : Jvm.MethodName)) ∈ lw_all := lw_g (lw_at lw_m1 178 rfl) rfl
theorem q311 : (Jvm.Cond.code ({ cls := "java/lang/IndexOutOfBoundsException", name := "<init>", desc := "(Ljava/lang/String;)V" } : Jvm.MethodName) prog_21_method_2_code (2 : Nat) (Option.none : Option Jvm.ClassFile.FieldType)) ∈ lw_all := lw_g (lw_at lw_m1 179 rfl) rfl
theorem q312 : (Jvm.Cond.methodLink "java/lang/IndexOutOfBoundsException" (7 : Nat) ({ cls := "java/lang/RuntimeException", name := "<init>", desc := "(Ljava/lang/String;)V" } : Jvm.MethodName)) ∈ lw_all := lw_g (lw_at lw_m1 180 rfl) rfl
theorem q321 : (Jvm.Cond.declares ({ cls := "java/lang/IndexOutOfBoundsException", name := "<init>", desc := "()V" } : Jvm.MethodName)) ∈ lw_tbl := lw_at lw_m1 189 rfl
theorem q322 : (Jvm.Cond.declares ({ cls := "java/lang/IndexOutOfBoundsException", name := "<init>", desc := "(Ljava/lang/String;)V" } : Jvm.MethodName)) ∈ lw_tbl := lw_at lw_m1 190 rfl

/-! java/lang/ArrayIndexOutOfBoundsException -/
set_option maxRecDepth 100000
def RJ18 : String := "java/lang/ArrayIndexOutOfBoundsException"
def TJ18 : u_T := fun k => match k with
  | 0 => ("java/lang/Throwable", "backtrace", "Ljava/lang/Object;", false)
  | 1 => ("java/lang/Throwable", "detailMessage", "Ljava/lang/String;", false)
  | 2 => ("java/lang/Throwable", "cause", "Ljava/lang/Throwable;", false)
  | 3 => ("java/lang/Throwable", "stackTrace", "[Ljava/lang/StackTraceElement;", false)
  | 4 => ("java/lang/Throwable", "depth", "I", false)
  | _ => ("java/lang/Throwable", "suppressedExceptions", "Ljava/util/List;", false)
def tyJ18 : Nat → FieldType := fun k => match k with
  | 0 => .object "java/lang/Object"
  | 1 => .object "java/lang/String"
  | 2 => .object "java/lang/Throwable"
  | 3 => .array (.object "java/lang/StackTraceElement")
  | 4 => .int
  | _ => .object "java/util/List"
abbrev wsJ180 : List Cond := u_ws RJ18 TJ18 6
theorem nmJ18 : ∀ a, a < 6 → ∀ b, b < 6 → a ≠ b → (TJ18 a).2.1 ≠ (TJ18 b).2.1 := by decide +kernel
theorem tyJ18_ok : ∀ k, k < 6 → parseFieldDescriptor (TJ18 k).2.2.1 = some (tyJ18 k) := by decide +kernel
abbrev cJ18_init : ByteArray := prog_15_method_2_code
def yJ18_init : MethodName := ⟨RJ18, "<init>", "(Ljava/lang/String;)V"⟩
def dkwJ18_init_0 : List UInt8 := [42, 43, 183, 0, 7, 177]
abbrev dktJ18_init_0 : List UInt8 := dkwJ18_init_0 ++ []
theorem dksJ18_init_0 : cJ18_init.data.toList.drop 0 = dktJ18_init_0 := by decide +kernel
theorem dJ18_init_0 : decode cJ18_init 0 = .ok (.aload_n 0, 1) := dk_42 (dk_at dksJ18_init_0 0 rfl rfl)
theorem dJ18_init_1 : decode cJ18_init 1 = .ok (.aload_n 1, 1) := dk_43 (dk_at dksJ18_init_0 1 rfl rfl)
theorem dJ18_init_2 : decode cJ18_init 2 = .ok (.invokespecial 7, 3) := dk_183 0 7 (dk_at dksJ18_init_0 2 rfl rfl)
theorem dJ18_init_5 : decode cJ18_init 5 = .ok (.return_, 1) := dk_177 (dk_at dksJ18_init_0 5 rfl rfl)
theorem q164 : (Jvm.Cond.initialized "java/lang/ArrayIndexOutOfBoundsException") ∈ lw_all := lw_g (lw_at lw_m1 32 rfl) rfl
theorem q205 : (Jvm.Cond.selects "java/lang/ArrayIndexOutOfBoundsException" ({ cls := "java/lang/Throwable", name := "fillInStackTrace", desc := "()Ljava/lang/Throwable;" } : Jvm.MethodName) ({ cls := "java/lang/Throwable", name := "fillInStackTrace", desc := "()Ljava/lang/Throwable;" } : Jvm.MethodName)) ∈ lw_all := lw_g (lw_at lw_m1 73 rfl) rfl
theorem q306 : (Jvm.Cond.instantiable "java/lang/ArrayIndexOutOfBoundsException" (6 : Nat)) ∈ lw_all := lw_g (lw_at lw_m1 174 rfl) rfl
theorem q307 : (Jvm.Cond.instanceMethod ({ cls := "java/lang/ArrayIndexOutOfBoundsException", name := "<init>", desc := "(Ljava/lang/String;)V" } : Jvm.MethodName)) ∈ lw_all := lw_g (lw_at lw_m1 175 rfl) rfl
theorem q308 : (Jvm.Cond.code ({ cls := "java/lang/ArrayIndexOutOfBoundsException", name := "<init>", desc := "(Ljava/lang/String;)V" } : Jvm.MethodName) prog_15_method_2_code (2 : Nat) (Option.none : Option Jvm.ClassFile.FieldType)) ∈ lw_all := lw_g (lw_at lw_m1 176 rfl) rfl
theorem q309 : (Jvm.Cond.methodLink "java/lang/ArrayIndexOutOfBoundsException" (7 : Nat) ({ cls := "java/lang/IndexOutOfBoundsException", name := "<init>", desc := "(Ljava/lang/String;)V" } : Jvm.MethodName)) ∈ lw_all := lw_g (lw_at lw_m1 177 rfl) rfl
theorem q313 : (Jvm.Cond.lays "java/lang/ArrayIndexOutOfBoundsException" "java/lang/Throwable" "backtrace" "Ljava/lang/Object;") ∈ lw_all := lw_g (lw_at lw_m1 181 rfl) rfl
theorem q314 : (Jvm.Cond.lays "java/lang/ArrayIndexOutOfBoundsException" "java/lang/Throwable" "detailMessage" "Ljava/lang/String;") ∈ lw_all := lw_g (lw_at lw_m1 182 rfl) rfl
theorem q315 : (Jvm.Cond.lays "java/lang/ArrayIndexOutOfBoundsException" "java/lang/Throwable" "cause" "Ljava/lang/Throwable;") ∈ lw_all := lw_g (lw_at lw_m1 183 rfl) rfl
theorem q316 : (Jvm.Cond.lays "java/lang/ArrayIndexOutOfBoundsException" "java/lang/Throwable" "stackTrace" "[Ljava/lang/StackTraceElement;") ∈ lw_all := lw_g (lw_at lw_m1 184 rfl) rfl
theorem q317 : (Jvm.Cond.lays "java/lang/ArrayIndexOutOfBoundsException" "java/lang/Throwable" "depth" "I") ∈ lw_all := lw_g (lw_at lw_m1 185 rfl) rfl
theorem q318 : (Jvm.Cond.lays "java/lang/ArrayIndexOutOfBoundsException" "java/lang/Throwable" "suppressedExceptions" "Ljava/util/List;") ∈ lw_all := lw_g (lw_at lw_m1 186 rfl) rfl
theorem q319 : (Jvm.Cond.superclass "java/lang/ArrayIndexOutOfBoundsException" "java/lang/IndexOutOfBoundsException") ∈ lw_all := lw_g (lw_at lw_m1 187 rfl) rfl
theorem q320 : (Jvm.Cond.castable "java/lang/ArrayIndexOutOfBoundsException" "java/lang/ArrayIndexOutOfBoundsException") ∈ lw_tbl := lw_at lw_m1 188 rfl
theorem q323 : (Jvm.Cond.selects "java/lang/ArrayIndexOutOfBoundsException" ({ cls := "java/lang/Throwable", name := "fillInStackTrace", desc := "(I)Ljava/lang/Throwable;" } : Jvm.MethodName) ({ cls := "java/lang/Throwable", name := "fillInStackTrace", desc := "(I)Ljava/lang/Throwable;" } : Jvm.MethodName)) ∈ lw_all := lw_g (lw_at lw_m1 191 rfl) rfl
theorem q929 : (Jvm.Cond.selects "java/lang/ArrayIndexOutOfBoundsException" ({ cls := "java/lang/Object", name := "getClass", desc := "()Ljava/lang/Class;" } : Jvm.MethodName) ({ cls := "java/lang/Object", name := "getClass", desc := "()Ljava/lang/Class;" } : Jvm.MethodName)) ∈ lw_all := lw_g (lw_at lw_m4 77 rfl) rfl
theorem q2112 : (Jvm.Cond.castable "java/lang/ArrayIndexOutOfBoundsException" "java/lang/IndexOutOfBoundsException") ∈ lw_tbl := lw_at lw_m9 60 rfl
theorem q2128 : (Jvm.Cond.castable "java/lang/ArrayIndexOutOfBoundsException" "java/lang/Object") ∈ lw_tbl := lw_at lw_m9 76 rfl
theorem in_J18 : ∀ w ∈ wsJ180, w ∈ lw_all := lw_in wsJ180 [313, 314, 315, 316, 317, 318] (by decide +kernel) (by decide +kernel)

/-! java/lang/ClassCastException -/
set_option maxRecDepth 100000
def RJ19 : String := "java/lang/ClassCastException"
def TJ19 : u_T := fun k => match k with
  | 0 => ("java/lang/Throwable", "backtrace", "Ljava/lang/Object;", false)
  | 1 => ("java/lang/Throwable", "detailMessage", "Ljava/lang/String;", false)
  | 2 => ("java/lang/Throwable", "cause", "Ljava/lang/Throwable;", false)
  | 3 => ("java/lang/Throwable", "stackTrace", "[Ljava/lang/StackTraceElement;", false)
  | 4 => ("java/lang/Throwable", "depth", "I", false)
  | _ => ("java/lang/Throwable", "suppressedExceptions", "Ljava/util/List;", false)
def tyJ19 : Nat → FieldType := fun k => match k with
  | 0 => .object "java/lang/Object"
  | 1 => .object "java/lang/String"
  | 2 => .object "java/lang/Throwable"
  | 3 => .array (.object "java/lang/StackTraceElement")
  | 4 => .int
  | _ => .object "java/util/List"
abbrev wsJ190 : List Cond := u_ws RJ19 TJ19 6
theorem nmJ19 : ∀ a, a < 6 → ∀ b, b < 6 → a ≠ b → (TJ19 a).2.1 ≠ (TJ19 b).2.1 := by decide +kernel
theorem tyJ19_ok : ∀ k, k < 6 → parseFieldDescriptor (TJ19 k).2.2.1 = some (tyJ19 k) := by decide +kernel
abbrev cJ19_init : ByteArray := prog_17_method_2_code
def yJ19_init : MethodName := ⟨RJ19, "<init>", "(Ljava/lang/String;)V"⟩
def dkwJ19_init_0 : List UInt8 := [42, 43, 183, 0, 7, 177]
abbrev dktJ19_init_0 : List UInt8 := dkwJ19_init_0 ++ []
theorem dksJ19_init_0 : cJ19_init.data.toList.drop 0 = dktJ19_init_0 := by decide +kernel
theorem dJ19_init_0 : decode cJ19_init 0 = .ok (.aload_n 0, 1) := dk_42 (dk_at dksJ19_init_0 0 rfl rfl)
theorem dJ19_init_1 : decode cJ19_init 1 = .ok (.aload_n 1, 1) := dk_43 (dk_at dksJ19_init_0 1 rfl rfl)
theorem dJ19_init_2 : decode cJ19_init 2 = .ok (.invokespecial 7, 3) := dk_183 0 7 (dk_at dksJ19_init_0 2 rfl rfl)
theorem dJ19_init_5 : decode cJ19_init 5 = .ok (.return_, 1) := dk_177 (dk_at dksJ19_init_0 5 rfl rfl)
theorem q165 : (Jvm.Cond.initialized "java/lang/ClassCastException") ∈ lw_all := lw_g (lw_at lw_m1 33 rfl) rfl
theorem q206 : (Jvm.Cond.selects "java/lang/ClassCastException" ({ cls := "java/lang/Throwable", name := "fillInStackTrace", desc := "()Ljava/lang/Throwable;" } : Jvm.MethodName) ({ cls := "java/lang/Throwable", name := "fillInStackTrace", desc := "()Ljava/lang/Throwable;" } : Jvm.MethodName)) ∈ lw_all := lw_g (lw_at lw_m1 74 rfl) rfl
theorem q336 : (Jvm.Cond.instantiable "java/lang/ClassCastException" (6 : Nat)) ∈ lw_all := lw_g (lw_at lw_m1 204 rfl) rfl
theorem q337 : (Jvm.Cond.instanceMethod ({ cls := "java/lang/ClassCastException", name := "<init>", desc := "(Ljava/lang/String;)V" } : Jvm.MethodName)) ∈ lw_all := lw_g (lw_at lw_m1 205 rfl) rfl
theorem q338 : (Jvm.Cond.code ({ cls := "java/lang/ClassCastException", name := "<init>", desc := "(Ljava/lang/String;)V" } : Jvm.MethodName) prog_17_method_2_code (2 : Nat) (Option.none : Option Jvm.ClassFile.FieldType)) ∈ lw_all := lw_g (lw_at lw_m1 206 rfl) rfl
theorem q339 : (Jvm.Cond.methodLink "java/lang/ClassCastException" (7 : Nat) ({ cls := "java/lang/RuntimeException", name := "<init>", desc := "(Ljava/lang/String;)V" } : Jvm.MethodName)) ∈ lw_all := lw_g (lw_at lw_m1 207 rfl) rfl
theorem q340 : (Jvm.Cond.lays "java/lang/ClassCastException" "java/lang/Throwable" "backtrace" "Ljava/lang/Object;") ∈ lw_all := lw_g (lw_at lw_m1 208 rfl) rfl
theorem q341 : (Jvm.Cond.lays "java/lang/ClassCastException" "java/lang/Throwable" "detailMessage" "Ljava/lang/String;") ∈ lw_all := lw_g (lw_at lw_m1 209 rfl) rfl
theorem q342 : (Jvm.Cond.lays "java/lang/ClassCastException" "java/lang/Throwable" "cause" "Ljava/lang/Throwable;") ∈ lw_all := lw_g (lw_at lw_m1 210 rfl) rfl
theorem q343 : (Jvm.Cond.lays "java/lang/ClassCastException" "java/lang/Throwable" "stackTrace" "[Ljava/lang/StackTraceElement;") ∈ lw_all := lw_g (lw_at lw_m1 211 rfl) rfl
theorem q344 : (Jvm.Cond.lays "java/lang/ClassCastException" "java/lang/Throwable" "depth" "I") ∈ lw_all := lw_g (lw_at lw_m1 212 rfl) rfl
theorem q345 : (Jvm.Cond.lays "java/lang/ClassCastException" "java/lang/Throwable" "suppressedExceptions" "Ljava/util/List;") ∈ lw_all := lw_g (lw_at lw_m1 213 rfl) rfl
theorem q346 : (Jvm.Cond.superclass "java/lang/ClassCastException" "java/lang/RuntimeException") ∈ lw_all := lw_g (lw_at lw_m1 214 rfl) rfl
theorem q347 : (Jvm.Cond.castable "java/lang/ClassCastException" "java/lang/ClassCastException") ∈ lw_tbl := lw_at lw_m1 215 rfl
theorem q348 : (Jvm.Cond.selects "java/lang/ClassCastException" ({ cls := "java/lang/Throwable", name := "fillInStackTrace", desc := "(I)Ljava/lang/Throwable;" } : Jvm.MethodName) ({ cls := "java/lang/Throwable", name := "fillInStackTrace", desc := "(I)Ljava/lang/Throwable;" } : Jvm.MethodName)) ∈ lw_all := lw_g (lw_at lw_m1 216 rfl) rfl
theorem q930 : (Jvm.Cond.selects "java/lang/ClassCastException" ({ cls := "java/lang/Object", name := "getClass", desc := "()Ljava/lang/Class;" } : Jvm.MethodName) ({ cls := "java/lang/Object", name := "getClass", desc := "()Ljava/lang/Class;" } : Jvm.MethodName)) ∈ lw_all := lw_g (lw_at lw_m4 78 rfl) rfl
theorem q2129 : (Jvm.Cond.castable "java/lang/ClassCastException" "java/lang/Object") ∈ lw_tbl := lw_at lw_m9 77 rfl
theorem in_J19 : ∀ w ∈ wsJ190, w ∈ lw_all := lw_in wsJ190 [340, 341, 342, 343, 344, 345] (by decide +kernel) (by decide +kernel)

/-! java/util/ArrayList -/
set_option maxRecDepth 100000
def RJ2 : String := "java/util/ArrayList"
def TJ2 : u_T := fun k => match k with
  | 0 => ("java/util/AbstractList", "modCount", "I", false)
  | 1 => ("java/util/ArrayList", "elementData", "[Ljava/lang/Object;", false)
  | _ => ("java/util/ArrayList", "size", "I", false)
def tyJ2 : Nat → FieldType := fun k => match k with
  | 0 => .int
  | 1 => .array (.object "java/lang/Object")
  | _ => .int
abbrev wsJ20 : List Cond := u_ws RJ2 TJ2 3
theorem nmJ2 : ∀ a, a < 3 → ∀ b, b < 3 → a ≠ b → (TJ2 a).2.1 ≠ (TJ2 b).2.1 := by decide +kernel
theorem tyJ2_ok : ∀ k, k < 3 → parseFieldDescriptor (TJ2 k).2.2.1 = some (tyJ2 k) := by decide +kernel
abbrev cJ2_init : ByteArray := prog_37_method_1_code
def yJ2_init : MethodName := ⟨RJ2, "<init>", "(I)V"⟩
def dkwJ2_init_2 : List UInt8 := [182, 0, 25, 27, 182, 0, 29, 182, 0, 32, 183, 0, 36, 191, 177]
abbrev dktJ2_init_2 : List UInt8 := dkwJ2_init_2 ++ []
def dkwJ2_init_1 : List UInt8 := [178, 0, 15, 181, 0, 9, 167, 0, 30, 187, 0, 18, 89, 187, 0, 20, 89, 183, 0, 22, 18, 23]
abbrev dktJ2_init_1 : List UInt8 := dkwJ2_init_1 ++ dktJ2_init_2
def dkwJ2_init_0 : List UInt8 := [42, 183, 0, 1, 27, 158, 0, 14, 42, 27, 189, 0, 7, 181, 0, 9, 167, 0, 44, 27, 154, 0, 13, 42]
abbrev dktJ2_init_0 : List UInt8 := dkwJ2_init_0 ++ dktJ2_init_1
theorem dksJ2_init_0 : cJ2_init.data.toList.drop 0 = dktJ2_init_0 := by decide +kernel
theorem dksJ2_init_1 : cJ2_init.data.toList.drop 24 = dktJ2_init_1 := dk_seg dksJ2_init_0 24 rfl rfl
theorem dksJ2_init_2 : cJ2_init.data.toList.drop 46 = dktJ2_init_2 := dk_seg dksJ2_init_1 22 rfl rfl
theorem dJ2_init_0 : decode cJ2_init 0 = .ok (.aload_n 0, 1) := dk_42 (dk_at dksJ2_init_0 0 rfl rfl)
theorem dJ2_init_1 : decode cJ2_init 1 = .ok (.invokespecial 1, 3) := dk_183 0 1 (dk_at dksJ2_init_0 1 rfl rfl)
theorem dJ2_init_4 : decode cJ2_init 4 = .ok (.iload_n 1, 1) := dk_27 (dk_at dksJ2_init_0 4 rfl rfl)
theorem dJ2_init_5 : decode cJ2_init 5 = .ok (.ifCond .le 14, 3) := dk_158 0 14 (dk_at dksJ2_init_0 5 rfl rfl)
theorem dJ2_init_8 : decode cJ2_init 8 = .ok (.aload_n 0, 1) := dk_42 (dk_at dksJ2_init_0 8 rfl rfl)
theorem dJ2_init_9 : decode cJ2_init 9 = .ok (.iload_n 1, 1) := dk_27 (dk_at dksJ2_init_0 9 rfl rfl)
theorem dJ2_init_10 : decode cJ2_init 10 = .ok (.anewarray 7, 3) := dk_189 0 7 (dk_at dksJ2_init_0 10 rfl rfl)
theorem dJ2_init_13 : decode cJ2_init 13 = .ok (.putfield 9, 3) := dk_181 0 9 (dk_at dksJ2_init_0 13 rfl rfl)
theorem dJ2_init_16 : decode cJ2_init 16 = .ok (.goto 44, 3) := dk_167 0 44 (dk_at dksJ2_init_0 16 rfl rfl)
theorem dJ2_init_19 : decode cJ2_init 19 = .ok (.iload_n 1, 1) := dk_27 (dk_at dksJ2_init_0 19 rfl rfl)
theorem dJ2_init_20 : decode cJ2_init 20 = .ok (.ifCond .ne 13, 3) := dk_154 0 13 (dk_at dksJ2_init_0 20 rfl rfl)
theorem dJ2_init_23 : decode cJ2_init 23 = .ok (.aload_n 0, 1) := dk_42 (dk_at dksJ2_init_0 23 rfl rfl)
theorem dJ2_init_24 : decode cJ2_init 24 = .ok (.getstatic 15, 3) := dk_178 0 15 (dk_at dksJ2_init_1 0 rfl rfl)
theorem dJ2_init_27 : decode cJ2_init 27 = .ok (.putfield 9, 3) := dk_181 0 9 (dk_at dksJ2_init_1 3 rfl rfl)
theorem dJ2_init_30 : decode cJ2_init 30 = .ok (.goto 30, 3) := dk_167 0 30 (dk_at dksJ2_init_1 6 rfl rfl)
theorem dJ2_init_33 : decode cJ2_init 33 = .ok (.new 18, 3) := dk_187 0 18 (dk_at dksJ2_init_1 9 rfl rfl)
theorem dJ2_init_36 : decode cJ2_init 36 = .ok (.dup, 1) := dk_89 (dk_at dksJ2_init_1 12 rfl rfl)
theorem dJ2_init_37 : decode cJ2_init 37 = .ok (.new 20, 3) := dk_187 0 20 (dk_at dksJ2_init_1 13 rfl rfl)
theorem dJ2_init_40 : decode cJ2_init 40 = .ok (.dup, 1) := dk_89 (dk_at dksJ2_init_1 16 rfl rfl)
theorem dJ2_init_41 : decode cJ2_init 41 = .ok (.invokespecial 22, 3) := dk_183 0 22 (dk_at dksJ2_init_1 17 rfl rfl)
theorem dJ2_init_44 : decode cJ2_init 44 = .ok (.ldc 23, 2) := dk_18 23 (dk_at dksJ2_init_1 20 rfl rfl)
theorem dJ2_init_46 : decode cJ2_init 46 = .ok (.invokevirtual 25, 3) := dk_182 0 25 (dk_at dksJ2_init_2 0 rfl rfl)
theorem dJ2_init_49 : decode cJ2_init 49 = .ok (.iload_n 1, 1) := dk_27 (dk_at dksJ2_init_2 3 rfl rfl)
theorem dJ2_init_50 : decode cJ2_init 50 = .ok (.invokevirtual 29, 3) := dk_182 0 29 (dk_at dksJ2_init_2 4 rfl rfl)
theorem dJ2_init_53 : decode cJ2_init 53 = .ok (.invokevirtual 32, 3) := dk_182 0 32 (dk_at dksJ2_init_2 7 rfl rfl)
theorem dJ2_init_56 : decode cJ2_init 56 = .ok (.invokespecial 36, 3) := dk_183 0 36 (dk_at dksJ2_init_2 10 rfl rfl)
theorem dJ2_init_59 : decode cJ2_init 59 = .ok (.athrow, 1) := dk_191 (dk_at dksJ2_init_2 13 rfl rfl)
theorem dJ2_init_60 : decode cJ2_init 60 = .ok (.return_, 1) := dk_177 (dk_at dksJ2_init_2 14 rfl rfl)
abbrev cJ2_size : ByteArray := prog_37_method_8_code
def yJ2_size : MethodName := ⟨RJ2, "size", "()I"⟩
theorem dJ2_size_0 : decode cJ2_size 0 = .ok (.aload_n 0, 1) := by decide +kernel
theorem dJ2_size_1 : decode cJ2_size 1 = .ok (.getfield 48, 3) := by decide +kernel
theorem dJ2_size_4 : decode cJ2_size 4 = .ok (.ireturn, 1) := by decide +kernel
abbrev cJ2_add : ByteArray := prog_37_method_25_code
def yJ2_add : MethodName := ⟨RJ2, "add", "(Ljava/lang/Object;)Z"⟩
def dkwJ2_add_1 : List UInt8 := [172]
abbrev dktJ2_add_1 : List UInt8 := dkwJ2_add_1 ++ []
def dkwJ2_add_0 : List UInt8 := [42, 89, 180, 0, 63, 4, 96, 181, 0, 63, 42, 43, 42, 180, 0, 9, 42, 180, 0, 48, 182, 0, 131, 4]
abbrev dktJ2_add_0 : List UInt8 := dkwJ2_add_0 ++ dktJ2_add_1
theorem dksJ2_add_0 : cJ2_add.data.toList.drop 0 = dktJ2_add_0 := by decide +kernel
theorem dksJ2_add_1 : cJ2_add.data.toList.drop 24 = dktJ2_add_1 := dk_seg dksJ2_add_0 24 rfl rfl
theorem dJ2_add_0 : decode cJ2_add 0 = .ok (.aload_n 0, 1) := dk_42 (dk_at dksJ2_add_0 0 rfl rfl)
theorem dJ2_add_1 : decode cJ2_add 1 = .ok (.dup, 1) := dk_89 (dk_at dksJ2_add_0 1 rfl rfl)
theorem dJ2_add_2 : decode cJ2_add 2 = .ok (.getfield 63, 3) := dk_180 0 63 (dk_at dksJ2_add_0 2 rfl rfl)
theorem dJ2_add_5 : decode cJ2_add 5 = .ok (.iconst 1, 1) := dk_4 (dk_at dksJ2_add_0 5 rfl rfl)
theorem dJ2_add_6 : decode cJ2_add 6 = .ok (.iadd, 1) := dk_96 (dk_at dksJ2_add_0 6 rfl rfl)
theorem dJ2_add_7 : decode cJ2_add 7 = .ok (.putfield 63, 3) := dk_181 0 63 (dk_at dksJ2_add_0 7 rfl rfl)
theorem dJ2_add_10 : decode cJ2_add 10 = .ok (.aload_n 0, 1) := dk_42 (dk_at dksJ2_add_0 10 rfl rfl)
theorem dJ2_add_11 : decode cJ2_add 11 = .ok (.aload_n 1, 1) := dk_43 (dk_at dksJ2_add_0 11 rfl rfl)
theorem dJ2_add_12 : decode cJ2_add 12 = .ok (.aload_n 0, 1) := dk_42 (dk_at dksJ2_add_0 12 rfl rfl)
theorem dJ2_add_13 : decode cJ2_add 13 = .ok (.getfield 9, 3) := dk_180 0 9 (dk_at dksJ2_add_0 13 rfl rfl)
theorem dJ2_add_16 : decode cJ2_add 16 = .ok (.aload_n 0, 1) := dk_42 (dk_at dksJ2_add_0 16 rfl rfl)
theorem dJ2_add_17 : decode cJ2_add 17 = .ok (.getfield 48, 3) := dk_180 0 48 (dk_at dksJ2_add_0 17 rfl rfl)
theorem dJ2_add_20 : decode cJ2_add 20 = .ok (.invokevirtual 131, 3) := dk_182 0 131 (dk_at dksJ2_add_0 20 rfl rfl)
theorem dJ2_add_23 : decode cJ2_add 23 = .ok (.iconst 1, 1) := dk_4 (dk_at dksJ2_add_0 23 rfl rfl)
theorem dJ2_add_24 : decode cJ2_add 24 = .ok (.ireturn, 1) := dk_172 (dk_at dksJ2_add_1 0 rfl rfl)
abbrev cJ2_add_2 : ByteArray := prog_37_method_24_code
def yJ2_add_2 : MethodName := ⟨RJ2, "add", "(Ljava/lang/Object;[Ljava/lang/Object;I)V"⟩
def dkwJ2_add_2_0 : List UInt8 := [29, 44, 190, 160, 0, 8, 42, 182, 0, 129, 77, 44, 29, 43, 83, 42, 29, 4, 96, 181, 0, 48, 177]
abbrev dktJ2_add_2_0 : List UInt8 := dkwJ2_add_2_0 ++ []
theorem dksJ2_add_2_0 : cJ2_add_2.data.toList.drop 0 = dktJ2_add_2_0 := by decide +kernel
theorem dJ2_add_2_0 : decode cJ2_add_2 0 = .ok (.iload_n 3, 1) := dk_29 (dk_at dksJ2_add_2_0 0 rfl rfl)
theorem dJ2_add_2_1 : decode cJ2_add_2 1 = .ok (.aload_n 2, 1) := dk_44 (dk_at dksJ2_add_2_0 1 rfl rfl)
theorem dJ2_add_2_2 : decode cJ2_add_2 2 = .ok (.arraylength, 1) := dk_190 (dk_at dksJ2_add_2_0 2 rfl rfl)
theorem dJ2_add_2_3 : decode cJ2_add_2 3 = .ok (.if_icmp .ne 8, 3) := dk_160 0 8 (dk_at dksJ2_add_2_0 3 rfl rfl)
theorem dJ2_add_2_6 : decode cJ2_add_2 6 = .ok (.aload_n 0, 1) := dk_42 (dk_at dksJ2_add_2_0 6 rfl rfl)
theorem dJ2_add_2_7 : decode cJ2_add_2 7 = .ok (.invokevirtual 129, 3) := dk_182 0 129 (dk_at dksJ2_add_2_0 7 rfl rfl)
theorem dJ2_add_2_10 : decode cJ2_add_2 10 = .ok (.astore_n 2, 1) := dk_77 (dk_at dksJ2_add_2_0 10 rfl rfl)
theorem dJ2_add_2_11 : decode cJ2_add_2 11 = .ok (.aload_n 2, 1) := dk_44 (dk_at dksJ2_add_2_0 11 rfl rfl)
theorem dJ2_add_2_12 : decode cJ2_add_2 12 = .ok (.iload_n 3, 1) := dk_29 (dk_at dksJ2_add_2_0 12 rfl rfl)
theorem dJ2_add_2_13 : decode cJ2_add_2 13 = .ok (.aload_n 1, 1) := dk_43 (dk_at dksJ2_add_2_0 13 rfl rfl)
theorem dJ2_add_2_14 : decode cJ2_add_2 14 = .ok (.aastore, 1) := dk_83 (dk_at dksJ2_add_2_0 14 rfl rfl)
theorem dJ2_add_2_15 : decode cJ2_add_2 15 = .ok (.aload_n 0, 1) := dk_42 (dk_at dksJ2_add_2_0 15 rfl rfl)
theorem dJ2_add_2_16 : decode cJ2_add_2 16 = .ok (.iload_n 3, 1) := dk_29 (dk_at dksJ2_add_2_0 16 rfl rfl)
theorem dJ2_add_2_17 : decode cJ2_add_2 17 = .ok (.iconst 1, 1) := dk_4 (dk_at dksJ2_add_2_0 17 rfl rfl)
theorem dJ2_add_2_18 : decode cJ2_add_2 18 = .ok (.iadd, 1) := dk_96 (dk_at dksJ2_add_2_0 18 rfl rfl)
theorem dJ2_add_2_19 : decode cJ2_add_2 19 = .ok (.putfield 48, 3) := dk_181 0 48 (dk_at dksJ2_add_2_0 19 rfl rfl)
theorem dJ2_add_2_22 : decode cJ2_add_2 22 = .ok (.return_, 1) := dk_177 (dk_at dksJ2_add_2_0 22 rfl rfl)
abbrev cJ2_grow : ByteArray := prog_37_method_7_code
def yJ2_grow : MethodName := ⟨RJ2, "grow", "()[Ljava/lang/Object;"⟩
def dkwJ2_grow_0 : List UInt8 := [42, 42, 180, 0, 48, 4, 96, 182, 0, 69, 176]
abbrev dktJ2_grow_0 : List UInt8 := dkwJ2_grow_0 ++ []
theorem dksJ2_grow_0 : cJ2_grow.data.toList.drop 0 = dktJ2_grow_0 := by decide +kernel
theorem dJ2_grow_0 : decode cJ2_grow 0 = .ok (.aload_n 0, 1) := dk_42 (dk_at dksJ2_grow_0 0 rfl rfl)
theorem dJ2_grow_1 : decode cJ2_grow 1 = .ok (.aload_n 0, 1) := dk_42 (dk_at dksJ2_grow_0 1 rfl rfl)
theorem dJ2_grow_2 : decode cJ2_grow 2 = .ok (.getfield 48, 3) := dk_180 0 48 (dk_at dksJ2_grow_0 2 rfl rfl)
theorem dJ2_grow_5 : decode cJ2_grow 5 = .ok (.iconst 1, 1) := dk_4 (dk_at dksJ2_grow_0 5 rfl rfl)
theorem dJ2_grow_6 : decode cJ2_grow 6 = .ok (.iadd, 1) := dk_96 (dk_at dksJ2_grow_0 6 rfl rfl)
theorem dJ2_grow_7 : decode cJ2_grow 7 = .ok (.invokevirtual 69, 3) := dk_182 0 69 (dk_at dksJ2_grow_0 7 rfl rfl)
theorem dJ2_grow_10 : decode cJ2_grow 10 = .ok (.areturn, 1) := dk_176 (dk_at dksJ2_grow_0 10 rfl rfl)
abbrev cJ2_grow_2 : ByteArray := prog_37_method_6_code
def yJ2_grow_2 : MethodName := ⟨RJ2, "grow", "(I)[Ljava/lang/Object;"⟩
def dkwJ2_grow_2_2 : List UInt8 := [27, 184, 0, 79, 189, 0, 7, 90, 181, 0, 9, 176]
abbrev dktJ2_grow_2_2 : List UInt8 := dkwJ2_grow_2_2 ++ []
def dkwJ2_grow_2_1 : List UInt8 := [28, 4, 122, 184, 0, 73, 62, 42, 42, 180, 0, 9, 29, 184, 0, 66, 90, 181, 0, 9, 176, 42, 16, 10]
abbrev dktJ2_grow_2_1 : List UInt8 := dkwJ2_grow_2_1 ++ dktJ2_grow_2_2
def dkwJ2_grow_2_0 : List UInt8 := [42, 180, 0, 9, 190, 61, 28, 157, 0, 13, 42, 180, 0, 9, 178, 0, 39, 165, 0, 28, 28, 27, 28, 100]
abbrev dktJ2_grow_2_0 : List UInt8 := dkwJ2_grow_2_0 ++ dktJ2_grow_2_1
theorem dksJ2_grow_2_0 : cJ2_grow_2.data.toList.drop 0 = dktJ2_grow_2_0 := by decide +kernel
theorem dksJ2_grow_2_1 : cJ2_grow_2.data.toList.drop 24 = dktJ2_grow_2_1 := dk_seg dksJ2_grow_2_0 24 rfl rfl
theorem dksJ2_grow_2_2 : cJ2_grow_2.data.toList.drop 48 = dktJ2_grow_2_2 := dk_seg dksJ2_grow_2_1 24 rfl rfl
theorem dJ2_grow_2_0 : decode cJ2_grow_2 0 = .ok (.aload_n 0, 1) := dk_42 (dk_at dksJ2_grow_2_0 0 rfl rfl)
theorem dJ2_grow_2_1 : decode cJ2_grow_2 1 = .ok (.getfield 9, 3) := dk_180 0 9 (dk_at dksJ2_grow_2_0 1 rfl rfl)
theorem dJ2_grow_2_4 : decode cJ2_grow_2 4 = .ok (.arraylength, 1) := dk_190 (dk_at dksJ2_grow_2_0 4 rfl rfl)
theorem dJ2_grow_2_5 : decode cJ2_grow_2 5 = .ok (.istore_n 2, 1) := dk_61 (dk_at dksJ2_grow_2_0 5 rfl rfl)
theorem dJ2_grow_2_6 : decode cJ2_grow_2 6 = .ok (.iload_n 2, 1) := dk_28 (dk_at dksJ2_grow_2_0 6 rfl rfl)
theorem dJ2_grow_2_7 : decode cJ2_grow_2 7 = .ok (.ifCond .gt 13, 3) := dk_157 0 13 (dk_at dksJ2_grow_2_0 7 rfl rfl)
theorem dJ2_grow_2_10 : decode cJ2_grow_2 10 = .ok (.aload_n 0, 1) := dk_42 (dk_at dksJ2_grow_2_0 10 rfl rfl)
theorem dJ2_grow_2_11 : decode cJ2_grow_2 11 = .ok (.getfield 9, 3) := dk_180 0 9 (dk_at dksJ2_grow_2_0 11 rfl rfl)
theorem dJ2_grow_2_14 : decode cJ2_grow_2 14 = .ok (.getstatic 39, 3) := dk_178 0 39 (dk_at dksJ2_grow_2_0 14 rfl rfl)
theorem dJ2_grow_2_17 : decode cJ2_grow_2 17 = .ok (.if_acmp .eq 28, 3) := dk_165 0 28 (dk_at dksJ2_grow_2_0 17 rfl rfl)
theorem dJ2_grow_2_20 : decode cJ2_grow_2 20 = .ok (.iload_n 2, 1) := dk_28 (dk_at dksJ2_grow_2_0 20 rfl rfl)
theorem dJ2_grow_2_21 : decode cJ2_grow_2 21 = .ok (.iload_n 1, 1) := dk_27 (dk_at dksJ2_grow_2_0 21 rfl rfl)
theorem dJ2_grow_2_22 : decode cJ2_grow_2 22 = .ok (.iload_n 2, 1) := dk_28 (dk_at dksJ2_grow_2_0 22 rfl rfl)
theorem dJ2_grow_2_23 : decode cJ2_grow_2 23 = .ok (.isub, 1) := dk_100 (dk_at dksJ2_grow_2_0 23 rfl rfl)
theorem dJ2_grow_2_24 : decode cJ2_grow_2 24 = .ok (.iload_n 2, 1) := dk_28 (dk_at dksJ2_grow_2_1 0 rfl rfl)
theorem dJ2_grow_2_25 : decode cJ2_grow_2 25 = .ok (.iconst 1, 1) := dk_4 (dk_at dksJ2_grow_2_1 1 rfl rfl)
theorem dJ2_grow_2_26 : decode cJ2_grow_2 26 = .ok (.ishr, 1) := dk_122 (dk_at dksJ2_grow_2_1 2 rfl rfl)
theorem dJ2_grow_2_27 : decode cJ2_grow_2 27 = .ok (.invokestatic 73, 3) := dk_184 0 73 (dk_at dksJ2_grow_2_1 3 rfl rfl)
theorem dJ2_grow_2_30 : decode cJ2_grow_2 30 = .ok (.istore_n 3, 1) := dk_62 (dk_at dksJ2_grow_2_1 6 rfl rfl)
theorem dJ2_grow_2_31 : decode cJ2_grow_2 31 = .ok (.aload_n 0, 1) := dk_42 (dk_at dksJ2_grow_2_1 7 rfl rfl)
theorem dJ2_grow_2_32 : decode cJ2_grow_2 32 = .ok (.aload_n 0, 1) := dk_42 (dk_at dksJ2_grow_2_1 8 rfl rfl)
theorem dJ2_grow_2_33 : decode cJ2_grow_2 33 = .ok (.getfield 9, 3) := dk_180 0 9 (dk_at dksJ2_grow_2_1 9 rfl rfl)
theorem dJ2_grow_2_36 : decode cJ2_grow_2 36 = .ok (.iload_n 3, 1) := dk_29 (dk_at dksJ2_grow_2_1 12 rfl rfl)
theorem dJ2_grow_2_37 : decode cJ2_grow_2 37 = .ok (.invokestatic 66, 3) := dk_184 0 66 (dk_at dksJ2_grow_2_1 13 rfl rfl)
theorem dJ2_grow_2_40 : decode cJ2_grow_2 40 = .ok (.dup_x1, 1) := dk_90 (dk_at dksJ2_grow_2_1 16 rfl rfl)
theorem dJ2_grow_2_41 : decode cJ2_grow_2 41 = .ok (.putfield 9, 3) := dk_181 0 9 (dk_at dksJ2_grow_2_1 17 rfl rfl)
theorem dJ2_grow_2_44 : decode cJ2_grow_2 44 = .ok (.areturn, 1) := dk_176 (dk_at dksJ2_grow_2_1 20 rfl rfl)
theorem dJ2_grow_2_45 : decode cJ2_grow_2 45 = .ok (.aload_n 0, 1) := dk_42 (dk_at dksJ2_grow_2_1 21 rfl rfl)
theorem dJ2_grow_2_46 : decode cJ2_grow_2 46 = .ok (.bipush 10, 2) := dk_16 10 (dk_at dksJ2_grow_2_1 22 rfl rfl)
theorem dJ2_grow_2_48 : decode cJ2_grow_2 48 = .ok (.iload_n 1, 1) := dk_27 (dk_at dksJ2_grow_2_2 0 rfl rfl)
theorem dJ2_grow_2_49 : decode cJ2_grow_2 49 = .ok (.invokestatic 79, 3) := dk_184 0 79 (dk_at dksJ2_grow_2_2 1 rfl rfl)
theorem dJ2_grow_2_52 : decode cJ2_grow_2 52 = .ok (.anewarray 7, 3) := dk_189 0 7 (dk_at dksJ2_grow_2_2 4 rfl rfl)
theorem dJ2_grow_2_55 : decode cJ2_grow_2 55 = .ok (.dup_x1, 1) := dk_90 (dk_at dksJ2_grow_2_2 7 rfl rfl)
theorem dJ2_grow_2_56 : decode cJ2_grow_2 56 = .ok (.putfield 9, 3) := dk_181 0 9 (dk_at dksJ2_grow_2_2 8 rfl rfl)
theorem dJ2_grow_2_59 : decode cJ2_grow_2 59 = .ok (.areturn, 1) := dk_176 (dk_at dksJ2_grow_2_2 11 rfl rfl)
abbrev cJ2_get : ByteArray := prog_37_method_20_code
def yJ2_get : MethodName := ⟨RJ2, "get", "(I)Ljava/lang/Object;"⟩
def dkwJ2_get_0 : List UInt8 := [27, 42, 180, 0, 48, 184, 0, 118, 87, 42, 27, 182, 0, 123, 176]
abbrev dktJ2_get_0 : List UInt8 := dkwJ2_get_0 ++ []
theorem dksJ2_get_0 : cJ2_get.data.toList.drop 0 = dktJ2_get_0 := by decide +kernel
theorem dJ2_get_0 : decode cJ2_get 0 = .ok (.iload_n 1, 1) := dk_27 (dk_at dksJ2_get_0 0 rfl rfl)
theorem dJ2_get_1 : decode cJ2_get 1 = .ok (.aload_n 0, 1) := dk_42 (dk_at dksJ2_get_0 1 rfl rfl)
theorem dJ2_get_2 : decode cJ2_get 2 = .ok (.getfield 48, 3) := dk_180 0 48 (dk_at dksJ2_get_0 2 rfl rfl)
theorem dJ2_get_5 : decode cJ2_get 5 = .ok (.invokestatic 118, 3) := dk_184 0 118 (dk_at dksJ2_get_0 5 rfl rfl)
theorem dJ2_get_8 : decode cJ2_get 8 = .ok (.pop, 1) := dk_87 (dk_at dksJ2_get_0 8 rfl rfl)
theorem dJ2_get_9 : decode cJ2_get 9 = .ok (.aload_n 0, 1) := dk_42 (dk_at dksJ2_get_0 9 rfl rfl)
theorem dJ2_get_10 : decode cJ2_get 10 = .ok (.iload_n 1, 1) := dk_27 (dk_at dksJ2_get_0 10 rfl rfl)
theorem dJ2_get_11 : decode cJ2_get 11 = .ok (.invokevirtual 123, 3) := dk_182 0 123 (dk_at dksJ2_get_0 11 rfl rfl)
theorem dJ2_get_14 : decode cJ2_get 14 = .ok (.areturn, 1) := dk_176 (dk_at dksJ2_get_0 14 rfl rfl)
abbrev cJ2_elementData : ByteArray := prog_37_method_18_code
def yJ2_elementData : MethodName := ⟨RJ2, "elementData", "(I)Ljava/lang/Object;"⟩
def dkwJ2_elementData_0 : List UInt8 := [42, 180, 0, 9, 27, 50, 176]
abbrev dktJ2_elementData_0 : List UInt8 := dkwJ2_elementData_0 ++ []
theorem dksJ2_elementData_0 : cJ2_elementData.data.toList.drop 0 = dktJ2_elementData_0 := by decide +kernel
theorem dJ2_elementData_0 : decode cJ2_elementData 0 = .ok (.aload_n 0, 1) := dk_42 (dk_at dksJ2_elementData_0 0 rfl rfl)
theorem dJ2_elementData_1 : decode cJ2_elementData 1 = .ok (.getfield 9, 3) := dk_180 0 9 (dk_at dksJ2_elementData_0 1 rfl rfl)
theorem dJ2_elementData_4 : decode cJ2_elementData 4 = .ok (.iload_n 1, 1) := dk_27 (dk_at dksJ2_elementData_0 4 rfl rfl)
theorem dJ2_elementData_5 : decode cJ2_elementData 5 = .ok (.aaload, 1) := dk_50 (dk_at dksJ2_elementData_0 5 rfl rfl)
theorem dJ2_elementData_6 : decode cJ2_elementData 6 = .ok (.areturn, 1) := dk_176 (dk_at dksJ2_elementData_0 6 rfl rfl)
theorem q138 : (Jvm.Cond.initialized "java/util/ArrayList") ∈ lw_all := lw_g (lw_at lw_m1 6 rfl) rfl
theorem q391 : (Jvm.Cond.instantiable "java/util/ArrayList" (3 : Nat)) ∈ lw_all := lw_g (lw_at lw_m2 19 rfl) rfl
theorem q393 : (Jvm.Cond.instanceMethod ({ cls := "java/util/ArrayList", name := "<init>", desc := "(I)V" } : Jvm.MethodName)) ∈ lw_all := lw_g (lw_at lw_m2 21 rfl) rfl
theorem q394 : (Jvm.Cond.code ({ cls := "java/util/ArrayList", name := "<init>", desc := "(I)V" } : Jvm.MethodName) prog_37_method_1_code (2 : Nat) (Option.none : Option Jvm.ClassFile.FieldType)) ∈ lw_all := lw_g (lw_at lw_m2 22 rfl) rfl
theorem q395 : (Jvm.Cond.methodLink "java/util/ArrayList" (1 : Nat) ({ cls := "java/util/AbstractList", name := "<init>", desc := "()V" } : Jvm.MethodName)) ∈ lw_all := lw_g (lw_at lw_m2 23 rfl) rfl
theorem q402 : (Jvm.Cond.classLink "java/util/ArrayList" (7 : Nat) "java/lang/Object") ∈ lw_all := lw_g (lw_at lw_m2 30 rfl) rfl
theorem q404 : (Jvm.Cond.fieldLink "java/util/ArrayList" (15 : Nat) "java/util/ArrayList" "EMPTY_ELEMENTDATA" "[Ljava/lang/Object;") ∈ lw_all := lw_g (lw_at lw_m2 32 rfl) rfl
theorem q405 : (Jvm.Cond.laysStatic "java/util/ArrayList" "EMPTY_ELEMENTDATA" "[Ljava/lang/Object;") ∈ lw_tbl := lw_at lw_m2 33 rfl
theorem q406 : (Jvm.Cond.fieldLink "java/util/ArrayList" (9 : Nat) "java/util/ArrayList" "elementData" "[Ljava/lang/Object;") ∈ lw_all := lw_g (lw_at lw_m2 34 rfl) rfl
theorem q407 : (Jvm.Cond.fieldLink "java/util/ArrayList" (48 : Nat) "java/util/ArrayList" "size" "I") ∈ lw_all := lw_g (lw_at lw_m2 35 rfl) rfl
theorem q409 : (Jvm.Cond.fieldLink "java/util/ArrayList" (63 : Nat) "java/util/ArrayList" "modCount" "I") ∈ lw_all := lw_g (lw_at lw_m2 37 rfl) rfl
theorem q410 : (Jvm.Cond.sameField "java/util/ArrayList" "java/util/AbstractList" "modCount" "I") ∈ lw_all := lw_g (lw_at lw_m2 38 rfl) rfl
theorem q411 : (Jvm.Cond.lays "java/util/ArrayList" "java/util/ArrayList" "elementData" "[Ljava/lang/Object;") ∈ lw_all := lw_g (lw_at lw_m2 39 rfl) rfl
theorem q412 : (Jvm.Cond.soleField "java/util/ArrayList" "elementData") ∈ lw_all := lw_g (lw_at lw_m2 40 rfl) rfl
theorem q413 : (Jvm.Cond.lays "java/util/ArrayList" "java/util/ArrayList" "size" "I") ∈ lw_all := lw_g (lw_at lw_m2 41 rfl) rfl
theorem q414 : (Jvm.Cond.soleField "java/util/ArrayList" "size") ∈ lw_all := lw_g (lw_at lw_m2 42 rfl) rfl
theorem q415 : (Jvm.Cond.lays "java/util/ArrayList" "java/util/AbstractList" "modCount" "I") ∈ lw_all := lw_g (lw_at lw_m2 43 rfl) rfl
theorem q417 : (Jvm.Cond.superclass "java/util/ArrayList" "java/util/AbstractList") ∈ lw_all := lw_g (lw_at lw_m2 45 rfl) rfl
theorem q833 : (Jvm.Cond.castable "java/util/ArrayList" "java/util/List") ∈ lw_tbl := lw_at lw_m3 221 rfl
theorem q834 : (Jvm.Cond.selects "java/util/ArrayList" ({ cls := "java/util/List", name := "size", desc := "()I" } : Jvm.MethodName) ({ cls := "java/util/ArrayList", name := "size", desc := "()I" } : Jvm.MethodName)) ∈ lw_all := lw_g (lw_at lw_m3 222 rfl) rfl
theorem q835 : (Jvm.Cond.unhidden "java/util/ArrayList" "size" "()I") ∈ lw_tbl := lw_at lw_m3 223 rfl
theorem q836 : (Jvm.Cond.instanceMethod ({ cls := "java/util/ArrayList", name := "size", desc := "()I" } : Jvm.MethodName)) ∈ lw_all := lw_g (lw_at lw_m3 224 rfl) rfl
theorem q837 : (Jvm.Cond.publicMethod ({ cls := "java/util/ArrayList", name := "size", desc := "()I" } : Jvm.MethodName)) ∈ lw_tbl := lw_at lw_m3 225 rfl
theorem q838 : (Jvm.Cond.code ({ cls := "java/util/ArrayList", name := "size", desc := "()I" } : Jvm.MethodName) prog_37_method_8_code (1 : Nat) (Option.some Jvm.ClassFile.FieldType.int)) ∈ lw_all := lw_g (lw_at lw_m3 226 rfl) rfl
theorem q882 : (Jvm.Cond.selects "java/util/ArrayList" ({ cls := "java/util/List", name := "add", desc := "(Ljava/lang/Object;)Z" } : Jvm.MethodName) ({ cls := "java/util/ArrayList", name := "add", desc := "(Ljava/lang/Object;)Z" } : Jvm.MethodName)) ∈ lw_all := lw_g (lw_at lw_m4 30 rfl) rfl
theorem q883 : (Jvm.Cond.unhidden "java/util/ArrayList" "add" "(Ljava/lang/Object;)Z") ∈ lw_tbl := lw_at lw_m4 31 rfl
theorem q884 : (Jvm.Cond.instanceMethod ({ cls := "java/util/ArrayList", name := "add", desc := "(Ljava/lang/Object;)Z" } : Jvm.MethodName)) ∈ lw_all := lw_g (lw_at lw_m4 32 rfl) rfl
theorem q885 : (Jvm.Cond.publicMethod ({ cls := "java/util/ArrayList", name := "add", desc := "(Ljava/lang/Object;)Z" } : Jvm.MethodName)) ∈ lw_tbl := lw_at lw_m4 33 rfl
theorem q886 : (Jvm.Cond.code ({ cls := "java/util/ArrayList", name := "add", desc := "(Ljava/lang/Object;)Z" } : Jvm.MethodName) prog_37_method_25_code (2 : Nat) (Option.some Jvm.ClassFile.FieldType.boolean)) ∈ lw_all := lw_g (lw_at lw_m4 34 rfl) rfl
theorem q887 : (Jvm.Cond.methodLink "java/util/ArrayList" (131 : Nat) ({ cls := "java/util/ArrayList", name := "add", desc := "(Ljava/lang/Object;[Ljava/lang/Object;I)V" } : Jvm.MethodName)) ∈ lw_all := lw_g (lw_at lw_m4 35 rfl) rfl
theorem q888 : (Jvm.Cond.privateMethod ({ cls := "java/util/ArrayList", name := "add", desc := "(Ljava/lang/Object;[Ljava/lang/Object;I)V" } : Jvm.MethodName)) ∈ lw_tbl := lw_at lw_m4 36 rfl
theorem q889 : (Jvm.Cond.instanceMethod ({ cls := "java/util/ArrayList", name := "add", desc := "(Ljava/lang/Object;[Ljava/lang/Object;I)V" } : Jvm.MethodName)) ∈ lw_all := lw_g (lw_at lw_m4 37 rfl) rfl
theorem q890 : (Jvm.Cond.code ({ cls := "java/util/ArrayList", name := "add", desc := "(Ljava/lang/Object;[Ljava/lang/Object;I)V" } : Jvm.MethodName) prog_37_method_24_code (4 : Nat) (Option.none : Option Jvm.ClassFile.FieldType)) ∈ lw_all := lw_g (lw_at lw_m4 38 rfl) rfl
theorem q891 : (Jvm.Cond.methodLink "java/util/ArrayList" (129 : Nat) ({ cls := "java/util/ArrayList", name := "grow", desc := "()[Ljava/lang/Object;" } : Jvm.MethodName)) ∈ lw_all := lw_g (lw_at lw_m4 39 rfl) rfl
theorem q892 : (Jvm.Cond.privateMethod ({ cls := "java/util/ArrayList", name := "grow", desc := "()[Ljava/lang/Object;" } : Jvm.MethodName)) ∈ lw_tbl := lw_at lw_m4 40 rfl
theorem q893 : (Jvm.Cond.instanceMethod ({ cls := "java/util/ArrayList", name := "grow", desc := "()[Ljava/lang/Object;" } : Jvm.MethodName)) ∈ lw_all := lw_g (lw_at lw_m4 41 rfl) rfl
theorem q894 : (Jvm.Cond.code ({ cls := "java/util/ArrayList", name := "grow", desc := "()[Ljava/lang/Object;" } : Jvm.MethodName) prog_37_method_7_code (1 : Nat) (Option.some (Jvm.ClassFile.FieldType.array (Jvm.ClassFile.FieldType.object "java/lang/Object")))) ∈ lw_all := lw_g (lw_at lw_m4 42 rfl) rfl
theorem q895 : (Jvm.Cond.methodLink "java/util/ArrayList" (69 : Nat) ({ cls := "java/util/ArrayList", name := "grow", desc := "(I)[Ljava/lang/Object;" } : Jvm.MethodName)) ∈ lw_all := lw_g (lw_at lw_m4 43 rfl) rfl
theorem q896 : (Jvm.Cond.privateMethod ({ cls := "java/util/ArrayList", name := "grow", desc := "(I)[Ljava/lang/Object;" } : Jvm.MethodName)) ∈ lw_tbl := lw_at lw_m4 44 rfl
theorem q897 : (Jvm.Cond.instanceMethod ({ cls := "java/util/ArrayList", name := "grow", desc := "(I)[Ljava/lang/Object;" } : Jvm.MethodName)) ∈ lw_all := lw_g (lw_at lw_m4 45 rfl) rfl
theorem q898 : (Jvm.Cond.code ({ cls := "java/util/ArrayList", name := "grow", desc := "(I)[Ljava/lang/Object;" } : Jvm.MethodName) prog_37_method_6_code (4 : Nat) (Option.some (Jvm.ClassFile.FieldType.array (Jvm.ClassFile.FieldType.object "java/lang/Object")))) ∈ lw_all := lw_g (lw_at lw_m4 46 rfl) rfl
theorem q899 : (Jvm.Cond.fieldLink "java/util/ArrayList" (39 : Nat) "java/util/ArrayList" "DEFAULTCAPACITY_EMPTY_ELEMENTDATA" "[Ljava/lang/Object;") ∈ lw_all := lw_g (lw_at lw_m4 47 rfl) rfl
theorem q900 : (Jvm.Cond.laysStatic "java/util/ArrayList" "DEFAULTCAPACITY_EMPTY_ELEMENTDATA" "[Ljava/lang/Object;") ∈ lw_tbl := lw_at lw_m4 48 rfl
theorem q901 : (Jvm.Cond.methodLink "java/util/ArrayList" (73 : Nat) ({ cls := "jdk/internal/util/ArraysSupport", name := "newLength", desc := "(III)I" } : Jvm.MethodName)) ∈ lw_all := lw_g (lw_at lw_m4 49 rfl) rfl
theorem q911 : (Jvm.Cond.methodLink "java/util/ArrayList" (66 : Nat) ({ cls := "java/util/Arrays", name := "copyOf", desc := "([Ljava/lang/Object;I)[Ljava/lang/Object;" } : Jvm.MethodName)) ∈ lw_all := lw_g (lw_at lw_m4 59 rfl) rfl
theorem q933 : (Jvm.Cond.selects "java/util/ArrayList" ({ cls := "java/lang/Object", name := "getClass", desc := "()Ljava/lang/Class;" } : Jvm.MethodName) ({ cls := "java/lang/Object", name := "getClass", desc := "()Ljava/lang/Class;" } : Jvm.MethodName)) ∈ lw_all := lw_g (lw_at lw_m4 81 rfl) rfl
theorem q942 : (Jvm.Cond.methodLink "java/util/ArrayList" (79 : Nat) ({ cls := "java/lang/Math", name := "max", desc := "(II)I" } : Jvm.MethodName)) ∈ lw_all := lw_g (lw_at lw_m4 90 rfl) rfl
theorem q1038 : (Jvm.Cond.selects "java/util/ArrayList" ({ cls := "java/util/List", name := "get", desc := "(I)Ljava/lang/Object;" } : Jvm.MethodName) ({ cls := "java/util/ArrayList", name := "get", desc := "(I)Ljava/lang/Object;" } : Jvm.MethodName)) ∈ lw_all := lw_g (lw_at lw_m4 186 rfl) rfl
theorem q1039 : (Jvm.Cond.unhidden "java/util/ArrayList" "get" "(I)Ljava/lang/Object;") ∈ lw_tbl := lw_at lw_m4 187 rfl
theorem q1040 : (Jvm.Cond.instanceMethod ({ cls := "java/util/ArrayList", name := "get", desc := "(I)Ljava/lang/Object;" } : Jvm.MethodName)) ∈ lw_all := lw_g (lw_at lw_m4 188 rfl) rfl
theorem q1041 : (Jvm.Cond.publicMethod ({ cls := "java/util/ArrayList", name := "get", desc := "(I)Ljava/lang/Object;" } : Jvm.MethodName)) ∈ lw_tbl := lw_at lw_m4 189 rfl
theorem q1042 : (Jvm.Cond.code ({ cls := "java/util/ArrayList", name := "get", desc := "(I)Ljava/lang/Object;" } : Jvm.MethodName) prog_37_method_20_code (2 : Nat) (Option.some (Jvm.ClassFile.FieldType.object "java/lang/Object"))) ∈ lw_all := lw_g (lw_at lw_m4 190 rfl) rfl
theorem q1043 : (Jvm.Cond.methodLink "java/util/ArrayList" (118 : Nat) ({ cls := "java/util/Objects", name := "checkIndex", desc := "(II)I" } : Jvm.MethodName)) ∈ lw_all := lw_g (lw_at lw_m4 191 rfl) rfl
theorem q1047 : (Jvm.Cond.methodLink "java/util/ArrayList" (123 : Nat) ({ cls := "java/util/ArrayList", name := "elementData", desc := "(I)Ljava/lang/Object;" } : Jvm.MethodName)) ∈ lw_all := lw_g (lw_at lw_m4 195 rfl) rfl
theorem q1048 : (Jvm.Cond.instanceMethod ({ cls := "java/util/ArrayList", name := "elementData", desc := "(I)Ljava/lang/Object;" } : Jvm.MethodName)) ∈ lw_all := lw_g (lw_at lw_m4 196 rfl) rfl
theorem q1049 : (Jvm.Cond.selects "java/util/ArrayList" ({ cls := "java/util/ArrayList", name := "elementData", desc := "(I)Ljava/lang/Object;" } : Jvm.MethodName) ({ cls := "java/util/ArrayList", name := "elementData", desc := "(I)Ljava/lang/Object;" } : Jvm.MethodName)) ∈ lw_all := lw_g (lw_at lw_m4 197 rfl) rfl
theorem q1050 : (Jvm.Cond.code ({ cls := "java/util/ArrayList", name := "elementData", desc := "(I)Ljava/lang/Object;" } : Jvm.MethodName) prog_37_method_18_code (2 : Nat) (Option.some (Jvm.ClassFile.FieldType.object "java/lang/Object"))) ∈ lw_all := lw_g (lw_at lw_m4 198 rfl) rfl
theorem q2117 : (Jvm.Cond.castable "java/util/ArrayList" "java/lang/Object") ∈ lw_tbl := lw_at lw_m9 65 rfl
theorem in_J2 : ∀ w ∈ wsJ20, w ∈ lw_all := lw_in wsJ20 [415, 411, 413] (by decide +kernel) (by decide +kernel)

/-! java/lang/Object -/
set_option maxRecDepth 100000
def RJ20 : String := "java/lang/Object"
abbrev cJ20_init : ByteArray := object_method_1_code
def yJ20_init : MethodName := ⟨RJ20, "<init>", "()V"⟩
theorem dJ20_init_0 : decode cJ20_init 0 = .ok (.return_, 1) := by decide +kernel
theorem q195 : (Jvm.Cond.instanceMethod ({ cls := "java/lang/Object", name := "<init>", desc := "()V" } : Jvm.MethodName)) ∈ lw_all := lw_g (lw_at lw_m1 63 rfl) rfl
theorem q196 : (Jvm.Cond.code ({ cls := "java/lang/Object", name := "<init>", desc := "()V" } : Jvm.MethodName) object_method_1_code (1 : Nat) (Option.none : Option Jvm.ClassFile.FieldType)) ∈ lw_all := lw_g (lw_at lw_m1 64 rfl) rfl
theorem q915 : (Jvm.Cond.instanceMethod ({ cls := "java/lang/Object", name := "getClass", desc := "()Ljava/lang/Class;" } : Jvm.MethodName)) ∈ lw_all := lw_g (lw_at lw_m4 63 rfl) rfl
theorem q916 : (Jvm.Cond.sameMethod "java/lang/Object" "java/lang/Object" "getClass" "()Ljava/lang/Class;") ∈ lw_all := lw_g (lw_at lw_m4 64 rfl) rfl
theorem q934 : (Jvm.Cond.native ({ cls := "java/lang/Object", name := "getClass", desc := "()Ljava/lang/Class;" } : Jvm.MethodName)) ∈ lw_all := lw_g (lw_at lw_m4 82 rfl) rfl
theorem q2111 : (Jvm.Cond.initialized "java/lang/Object") ∈ lw_all := lw_g (lw_at lw_m9 59 rfl) rfl
theorem q2134 : (Jvm.Cond.declares ({ cls := "java/lang/Object", name := "getClass", desc := "()Ljava/lang/Class;" } : Jvm.MethodName)) ∈ lw_tbl := lw_at lw_m9 82 rfl

/-! java/lang/Math -/
set_option maxRecDepth 100000
def RJ3 : String := "java/lang/Math"
abbrev cJ3_min : ByteArray := prog_24_method_69_code
def yJ3_min : MethodName := ⟨RJ3, "min", "(II)I"⟩
def dkwJ3_min_0 : List UInt8 := [26, 27, 163, 0, 7, 26, 167, 0, 4, 27, 172]
abbrev dktJ3_min_0 : List UInt8 := dkwJ3_min_0 ++ []
theorem dksJ3_min_0 : cJ3_min.data.toList.drop 0 = dktJ3_min_0 := by decide +kernel
theorem dJ3_min_0 : decode cJ3_min 0 = .ok (.iload_n 0, 1) := dk_26 (dk_at dksJ3_min_0 0 rfl rfl)
theorem dJ3_min_1 : decode cJ3_min 1 = .ok (.iload_n 1, 1) := dk_27 (dk_at dksJ3_min_0 1 rfl rfl)
theorem dJ3_min_2 : decode cJ3_min 2 = .ok (.if_icmp .gt 7, 3) := dk_163 0 7 (dk_at dksJ3_min_0 2 rfl rfl)
theorem dJ3_min_5 : decode cJ3_min 5 = .ok (.iload_n 0, 1) := dk_26 (dk_at dksJ3_min_0 5 rfl rfl)
theorem dJ3_min_6 : decode cJ3_min 6 = .ok (.goto 4, 3) := dk_167 0 4 (dk_at dksJ3_min_0 6 rfl rfl)
theorem dJ3_min_9 : decode cJ3_min 9 = .ok (.iload_n 1, 1) := dk_27 (dk_at dksJ3_min_0 9 rfl rfl)
theorem dJ3_min_10 : decode cJ3_min 10 = .ok (.ireturn, 1) := dk_172 (dk_at dksJ3_min_0 10 rfl rfl)
abbrev cJ3_max : ByteArray := prog_24_method_65_code
def yJ3_max : MethodName := ⟨RJ3, "max", "(II)I"⟩
def dkwJ3_max_0 : List UInt8 := [26, 27, 161, 0, 7, 26, 167, 0, 4, 27, 172]
abbrev dktJ3_max_0 : List UInt8 := dkwJ3_max_0 ++ []
theorem dksJ3_max_0 : cJ3_max.data.toList.drop 0 = dktJ3_max_0 := by decide +kernel
theorem dJ3_max_0 : decode cJ3_max 0 = .ok (.iload_n 0, 1) := dk_26 (dk_at dksJ3_max_0 0 rfl rfl)
theorem dJ3_max_1 : decode cJ3_max 1 = .ok (.iload_n 1, 1) := dk_27 (dk_at dksJ3_max_0 1 rfl rfl)
theorem dJ3_max_2 : decode cJ3_max 2 = .ok (.if_icmp .lt 7, 3) := dk_161 0 7 (dk_at dksJ3_max_0 2 rfl rfl)
theorem dJ3_max_5 : decode cJ3_max 5 = .ok (.iload_n 0, 1) := dk_26 (dk_at dksJ3_max_0 5 rfl rfl)
theorem dJ3_max_6 : decode cJ3_max 6 = .ok (.goto 4, 3) := dk_167 0 4 (dk_at dksJ3_max_0 6 rfl rfl)
theorem dJ3_max_9 : decode cJ3_max 9 = .ok (.iload_n 1, 1) := dk_27 (dk_at dksJ3_max_0 9 rfl rfl)
theorem dJ3_max_10 : decode cJ3_max 10 = .ok (.ireturn, 1) := dk_172 (dk_at dksJ3_max_0 10 rfl rfl)
abbrev cJ3_abs : ByteArray := prog_24_method_61_code
def yJ3_abs : MethodName := ⟨RJ3, "abs", "(J)J"⟩
def dkwJ3_abs_0 : List UInt8 := [30, 9, 148, 156, 0, 8, 30, 117, 167, 0, 4, 30, 173]
abbrev dktJ3_abs_0 : List UInt8 := dkwJ3_abs_0 ++ []
theorem dksJ3_abs_0 : cJ3_abs.data.toList.drop 0 = dktJ3_abs_0 := by decide +kernel
theorem dJ3_abs_0 : decode cJ3_abs 0 = .ok (.lload_n 0, 1) := dk_30 (dk_at dksJ3_abs_0 0 rfl rfl)
theorem dJ3_abs_1 : decode cJ3_abs 1 = .ok (.lconst 0, 1) := dk_9 (dk_at dksJ3_abs_0 1 rfl rfl)
theorem dJ3_abs_2 : decode cJ3_abs 2 = .ok (.lcmp, 1) := dk_148 (dk_at dksJ3_abs_0 2 rfl rfl)
theorem dJ3_abs_3 : decode cJ3_abs 3 = .ok (.ifCond .ge 8, 3) := dk_156 0 8 (dk_at dksJ3_abs_0 3 rfl rfl)
theorem dJ3_abs_6 : decode cJ3_abs 6 = .ok (.lload_n 0, 1) := dk_30 (dk_at dksJ3_abs_0 6 rfl rfl)
theorem dJ3_abs_7 : decode cJ3_abs 7 = .ok (.lneg, 1) := dk_117 (dk_at dksJ3_abs_0 7 rfl rfl)
theorem dJ3_abs_8 : decode cJ3_abs 8 = .ok (.goto 4, 3) := dk_167 0 4 (dk_at dksJ3_abs_0 8 rfl rfl)
theorem dJ3_abs_11 : decode cJ3_abs 11 = .ok (.lload_n 0, 1) := dk_30 (dk_at dksJ3_abs_0 11 rfl rfl)
theorem dJ3_abs_12 : decode cJ3_abs 12 = .ok (.lreturn, 1) := dk_173 (dk_at dksJ3_abs_0 12 rfl rfl)
theorem q143 : (Jvm.Cond.initialized "java/lang/Math") ∈ lw_all := lw_g (lw_at lw_m1 11 rfl) rfl
theorem q681 : (Jvm.Cond.static ({ cls := "java/lang/Math", name := "min", desc := "(II)I" } : Jvm.MethodName)) ∈ lw_all := lw_g (lw_at lw_m3 69 rfl) rfl
theorem q682 : (Jvm.Cond.code ({ cls := "java/lang/Math", name := "min", desc := "(II)I" } : Jvm.MethodName) prog_24_method_69_code (2 : Nat) (Option.some Jvm.ClassFile.FieldType.int)) ∈ lw_all := lw_g (lw_at lw_m3 70 rfl) rfl
theorem q905 : (Jvm.Cond.static ({ cls := "java/lang/Math", name := "max", desc := "(II)I" } : Jvm.MethodName)) ∈ lw_all := lw_g (lw_at lw_m4 53 rfl) rfl
theorem q906 : (Jvm.Cond.code ({ cls := "java/lang/Math", name := "max", desc := "(II)I" } : Jvm.MethodName) prog_24_method_65_code (2 : Nat) (Option.some Jvm.ClassFile.FieldType.int)) ∈ lw_all := lw_g (lw_at lw_m4 54 rfl) rfl
theorem q1248 : (Jvm.Cond.static ({ cls := "java/lang/Math", name := "abs", desc := "(J)J" } : Jvm.MethodName)) ∈ lw_all := lw_g (lw_at lw_m5 156 rfl) rfl
theorem q1249 : (Jvm.Cond.code ({ cls := "java/lang/Math", name := "abs", desc := "(J)J" } : Jvm.MethodName) prog_24_method_61_code (2 : Nat) (Option.some Jvm.ClassFile.FieldType.long)) ∈ lw_all := lw_g (lw_at lw_m5 157 rfl) rfl

/-! java/lang/String -/
set_option maxRecDepth 100000
def RJ4 : String := "java/lang/String"
def TJ4 : u_T := fun k => match k with
  | 0 => ("java/lang/String", "value", "[B", true)
  | _ => ("java/lang/String", "coder", "B", true)
def tyJ4 : Nat → FieldType := fun k => match k with
  | 0 => .array .byte
  | _ => .byte
abbrev wsJ40 : List Cond := u_ws RJ4 TJ4 2
theorem nmJ4 : ∀ a, a < 2 → ∀ b, b < 2 → a ≠ b → (TJ4 a).2.1 ≠ (TJ4 b).2.1 := by decide +kernel
theorem tyJ4_ok : ∀ k, k < 2 → parseFieldDescriptor (TJ4 k).2.2.1 = some (tyJ4 k) := by decide +kernel
abbrev cJ4_length : ByteArray := prog_28_method_54_code
def yJ4_length : MethodName := ⟨RJ4, "length", "()I"⟩
def dkwJ4_length_0 : List UInt8 := [42, 180, 0, 9, 190, 42, 182, 1, 79, 122, 172]
abbrev dktJ4_length_0 : List UInt8 := dkwJ4_length_0 ++ []
theorem dksJ4_length_0 : cJ4_length.data.toList.drop 0 = dktJ4_length_0 := by decide +kernel
theorem dJ4_length_0 : decode cJ4_length 0 = .ok (.aload_n 0, 1) := dk_42 (dk_at dksJ4_length_0 0 rfl rfl)
theorem dJ4_length_1 : decode cJ4_length 1 = .ok (.getfield 9, 3) := dk_180 0 9 (dk_at dksJ4_length_0 1 rfl rfl)
theorem dJ4_length_4 : decode cJ4_length 4 = .ok (.arraylength, 1) := dk_190 (dk_at dksJ4_length_0 4 rfl rfl)
theorem dJ4_length_5 : decode cJ4_length 5 = .ok (.aload_n 0, 1) := dk_42 (dk_at dksJ4_length_0 5 rfl rfl)
theorem dJ4_length_6 : decode cJ4_length 6 = .ok (.invokevirtual 335, 3) := dk_182 1 79 (dk_at dksJ4_length_0 6 rfl rfl)
theorem dJ4_length_9 : decode cJ4_length 9 = .ok (.ishr, 1) := dk_122 (dk_at dksJ4_length_0 9 rfl rfl)
theorem dJ4_length_10 : decode cJ4_length 10 = .ok (.ireturn, 1) := dk_172 (dk_at dksJ4_length_0 10 rfl rfl)
abbrev cJ4_coder : ByteArray := prog_28_method_152_code
def yJ4_coder : MethodName := ⟨RJ4, "coder", "()B"⟩
def dkwJ4_coder_0 : List UInt8 := [178, 0, 38, 153, 0, 10, 42, 180, 0, 15, 167, 0, 4, 4, 172]
abbrev dktJ4_coder_0 : List UInt8 := dkwJ4_coder_0 ++ []
theorem dksJ4_coder_0 : cJ4_coder.data.toList.drop 0 = dktJ4_coder_0 := by decide +kernel
theorem dJ4_coder_0 : decode cJ4_coder 0 = .ok (.getstatic 38, 3) := dk_178 0 38 (dk_at dksJ4_coder_0 0 rfl rfl)
theorem dJ4_coder_3 : decode cJ4_coder 3 = .ok (.ifCond .eq 10, 3) := dk_153 0 10 (dk_at dksJ4_coder_0 3 rfl rfl)
theorem dJ4_coder_6 : decode cJ4_coder 6 = .ok (.aload_n 0, 1) := dk_42 (dk_at dksJ4_coder_0 6 rfl rfl)
theorem dJ4_coder_7 : decode cJ4_coder 7 = .ok (.getfield 15, 3) := dk_180 0 15 (dk_at dksJ4_coder_0 7 rfl rfl)
theorem dJ4_coder_10 : decode cJ4_coder 10 = .ok (.goto 4, 3) := dk_167 0 4 (dk_at dksJ4_coder_0 10 rfl rfl)
theorem dJ4_coder_13 : decode cJ4_coder 13 = .ok (.iconst 1, 1) := dk_4 (dk_at dksJ4_coder_0 13 rfl rfl)
theorem dJ4_coder_14 : decode cJ4_coder 14 = .ok (.ireturn, 1) := dk_172 (dk_at dksJ4_coder_0 14 rfl rfl)
abbrev cJ4_charAt : ByteArray := prog_28_method_56_code
def yJ4_charAt : MethodName := ⟨RJ4, "charAt", "(I)C"⟩
def dkwJ4_charAt_1 : List UInt8 := [172]
abbrev dktJ4_charAt_1 : List UInt8 := dkwJ4_charAt_1 ++ []
def dkwJ4_charAt_0 : List UInt8 := [42, 182, 1, 236, 153, 0, 12, 42, 180, 0, 9, 27, 184, 1, 239, 172, 42, 180, 0, 9, 27, 184, 1, 242]
abbrev dktJ4_charAt_0 : List UInt8 := dkwJ4_charAt_0 ++ dktJ4_charAt_1
theorem dksJ4_charAt_0 : cJ4_charAt.data.toList.drop 0 = dktJ4_charAt_0 := by decide +kernel
theorem dksJ4_charAt_1 : cJ4_charAt.data.toList.drop 24 = dktJ4_charAt_1 := dk_seg dksJ4_charAt_0 24 rfl rfl
theorem dJ4_charAt_0 : decode cJ4_charAt 0 = .ok (.aload_n 0, 1) := dk_42 (dk_at dksJ4_charAt_0 0 rfl rfl)
theorem dJ4_charAt_1 : decode cJ4_charAt 1 = .ok (.invokevirtual 492, 3) := dk_182 1 236 (dk_at dksJ4_charAt_0 1 rfl rfl)
theorem dJ4_charAt_4 : decode cJ4_charAt 4 = .ok (.ifCond .eq 12, 3) := dk_153 0 12 (dk_at dksJ4_charAt_0 4 rfl rfl)
theorem dJ4_charAt_7 : decode cJ4_charAt 7 = .ok (.aload_n 0, 1) := dk_42 (dk_at dksJ4_charAt_0 7 rfl rfl)
theorem dJ4_charAt_8 : decode cJ4_charAt 8 = .ok (.getfield 9, 3) := dk_180 0 9 (dk_at dksJ4_charAt_0 8 rfl rfl)
theorem dJ4_charAt_11 : decode cJ4_charAt 11 = .ok (.iload_n 1, 1) := dk_27 (dk_at dksJ4_charAt_0 11 rfl rfl)
theorem dJ4_charAt_12 : decode cJ4_charAt 12 = .ok (.invokestatic 495, 3) := dk_184 1 239 (dk_at dksJ4_charAt_0 12 rfl rfl)
theorem dJ4_charAt_15 : decode cJ4_charAt 15 = .ok (.ireturn, 1) := dk_172 (dk_at dksJ4_charAt_0 15 rfl rfl)
theorem dJ4_charAt_16 : decode cJ4_charAt 16 = .ok (.aload_n 0, 1) := dk_42 (dk_at dksJ4_charAt_0 16 rfl rfl)
theorem dJ4_charAt_17 : decode cJ4_charAt 17 = .ok (.getfield 9, 3) := dk_180 0 9 (dk_at dksJ4_charAt_0 17 rfl rfl)
theorem dJ4_charAt_20 : decode cJ4_charAt 20 = .ok (.iload_n 1, 1) := dk_27 (dk_at dksJ4_charAt_0 20 rfl rfl)
theorem dJ4_charAt_21 : decode cJ4_charAt 21 = .ok (.invokestatic 498, 3) := dk_184 1 242 (dk_at dksJ4_charAt_0 21 rfl rfl)
theorem dJ4_charAt_24 : decode cJ4_charAt 24 = .ok (.ireturn, 1) := dk_172 (dk_at dksJ4_charAt_1 0 rfl rfl)
abbrev cJ4_isLatin1 : ByteArray := prog_28_method_154_code
def yJ4_isLatin1 : MethodName := ⟨RJ4, "isLatin1", "()Z"⟩
def dkwJ4_isLatin1_0 : List UInt8 := [178, 0, 38, 153, 0, 14, 42, 180, 0, 15, 154, 0, 7, 4, 167, 0, 4, 3, 172]
abbrev dktJ4_isLatin1_0 : List UInt8 := dkwJ4_isLatin1_0 ++ []
theorem dksJ4_isLatin1_0 : cJ4_isLatin1.data.toList.drop 0 = dktJ4_isLatin1_0 := by decide +kernel
theorem dJ4_isLatin1_0 : decode cJ4_isLatin1 0 = .ok (.getstatic 38, 3) := dk_178 0 38 (dk_at dksJ4_isLatin1_0 0 rfl rfl)
theorem dJ4_isLatin1_3 : decode cJ4_isLatin1 3 = .ok (.ifCond .eq 14, 3) := dk_153 0 14 (dk_at dksJ4_isLatin1_0 3 rfl rfl)
theorem dJ4_isLatin1_6 : decode cJ4_isLatin1 6 = .ok (.aload_n 0, 1) := dk_42 (dk_at dksJ4_isLatin1_0 6 rfl rfl)
theorem dJ4_isLatin1_7 : decode cJ4_isLatin1 7 = .ok (.getfield 15, 3) := dk_180 0 15 (dk_at dksJ4_isLatin1_0 7 rfl rfl)
theorem dJ4_isLatin1_10 : decode cJ4_isLatin1 10 = .ok (.ifCond .ne 7, 3) := dk_154 0 7 (dk_at dksJ4_isLatin1_0 10 rfl rfl)
theorem dJ4_isLatin1_13 : decode cJ4_isLatin1 13 = .ok (.iconst 1, 1) := dk_4 (dk_at dksJ4_isLatin1_0 13 rfl rfl)
theorem dJ4_isLatin1_14 : decode cJ4_isLatin1 14 = .ok (.goto 4, 3) := dk_167 0 4 (dk_at dksJ4_isLatin1_0 14 rfl rfl)
theorem dJ4_isLatin1_17 : decode cJ4_isLatin1 17 = .ok (.iconst 0, 1) := dk_3 (dk_at dksJ4_isLatin1_0 17 rfl rfl)
theorem dJ4_isLatin1_18 : decode cJ4_isLatin1 18 = .ok (.ireturn, 1) := dk_172 (dk_at dksJ4_isLatin1_0 18 rfl rfl)
abbrev cJ4_checkIndex : ByteArray := prog_28_method_155_code
def yJ4_checkIndex : MethodName := ⟨RJ4, "checkIndex", "(II)V"⟩
def dkwJ4_checkIndex_0 : List UInt8 := [26, 27, 178, 4, 29, 184, 4, 35, 87, 177]
abbrev dktJ4_checkIndex_0 : List UInt8 := dkwJ4_checkIndex_0 ++ []
theorem dksJ4_checkIndex_0 : cJ4_checkIndex.data.toList.drop 0 = dktJ4_checkIndex_0 := by decide +kernel
theorem dJ4_checkIndex_0 : decode cJ4_checkIndex 0 = .ok (.iload_n 0, 1) := dk_26 (dk_at dksJ4_checkIndex_0 0 rfl rfl)
theorem dJ4_checkIndex_1 : decode cJ4_checkIndex 1 = .ok (.iload_n 1, 1) := dk_27 (dk_at dksJ4_checkIndex_0 1 rfl rfl)
theorem dJ4_checkIndex_2 : decode cJ4_checkIndex 2 = .ok (.getstatic 1053, 3) := dk_178 4 29 (dk_at dksJ4_checkIndex_0 2 rfl rfl)
theorem dJ4_checkIndex_5 : decode cJ4_checkIndex 5 = .ok (.invokestatic 1059, 3) := dk_184 4 35 (dk_at dksJ4_checkIndex_0 5 rfl rfl)
theorem dJ4_checkIndex_8 : decode cJ4_checkIndex 8 = .ok (.pop, 1) := dk_87 (dk_at dksJ4_checkIndex_0 8 rfl rfl)
theorem dJ4_checkIndex_9 : decode cJ4_checkIndex 9 = .ok (.return_, 1) := dk_177 (dk_at dksJ4_checkIndex_0 9 rfl rfl)
theorem q144 : (Jvm.Cond.initialized "java/lang/String") ∈ lw_all := lw_g (lw_at lw_m1 12 rfl) rfl
theorem q263 : (Jvm.Cond.instantiable "java/lang/String" (4 : Nat)) ∈ lw_all := lw_g (lw_at lw_m1 131 rfl) rfl
theorem q265 : (Jvm.Cond.laysFinal "java/lang/String" "java/lang/String" "value" "[B") ∈ lw_all := lw_g (lw_at lw_m1 133 rfl) rfl
theorem q266 : (Jvm.Cond.soleField "java/lang/String" "value") ∈ lw_all := lw_g (lw_at lw_m1 134 rfl) rfl
theorem q267 : (Jvm.Cond.laysFinal "java/lang/String" "java/lang/String" "coder" "B") ∈ lw_all := lw_g (lw_at lw_m1 135 rfl) rfl
theorem q268 : (Jvm.Cond.soleField "java/lang/String" "coder") ∈ lw_all := lw_g (lw_at lw_m1 136 rfl) rfl
theorem q723 : (Jvm.Cond.instanceMethod ({ cls := "java/lang/String", name := "length", desc := "()I" } : Jvm.MethodName)) ∈ lw_all := lw_g (lw_at lw_m3 111 rfl) rfl
theorem q724 : (Jvm.Cond.selects "java/lang/String" ({ cls := "java/lang/String", name := "length", desc := "()I" } : Jvm.MethodName) ({ cls := "java/lang/String", name := "length", desc := "()I" } : Jvm.MethodName)) ∈ lw_all := lw_g (lw_at lw_m3 112 rfl) rfl
theorem q725 : (Jvm.Cond.code ({ cls := "java/lang/String", name := "length", desc := "()I" } : Jvm.MethodName) prog_28_method_54_code (1 : Nat) (Option.some Jvm.ClassFile.FieldType.int)) ∈ lw_all := lw_g (lw_at lw_m3 113 rfl) rfl
theorem q726 : (Jvm.Cond.methodLink "java/lang/String" (335 : Nat) ({ cls := "java/lang/String", name := "coder", desc := "()B" } : Jvm.MethodName)) ∈ lw_all := lw_g (lw_at lw_m3 114 rfl) rfl
theorem q727 : (Jvm.Cond.instanceMethod ({ cls := "java/lang/String", name := "coder", desc := "()B" } : Jvm.MethodName)) ∈ lw_all := lw_g (lw_at lw_m3 115 rfl) rfl
theorem q728 : (Jvm.Cond.selects "java/lang/String" ({ cls := "java/lang/String", name := "coder", desc := "()B" } : Jvm.MethodName) ({ cls := "java/lang/String", name := "coder", desc := "()B" } : Jvm.MethodName)) ∈ lw_all := lw_g (lw_at lw_m3 116 rfl) rfl
theorem q729 : (Jvm.Cond.code ({ cls := "java/lang/String", name := "coder", desc := "()B" } : Jvm.MethodName) prog_28_method_152_code (1 : Nat) (Option.some Jvm.ClassFile.FieldType.byte)) ∈ lw_all := lw_g (lw_at lw_m3 117 rfl) rfl
theorem q730 : (Jvm.Cond.fieldLink "java/lang/String" (38 : Nat) "java/lang/String" "COMPACT_STRINGS" "Z") ∈ lw_all := lw_g (lw_at lw_m3 118 rfl) rfl
theorem q731 : (Jvm.Cond.laysStatic "java/lang/String" "COMPACT_STRINGS" "Z") ∈ lw_tbl := lw_at lw_m3 119 rfl
theorem q733 : (Jvm.Cond.instanceMethod ({ cls := "java/lang/String", name := "charAt", desc := "(I)C" } : Jvm.MethodName)) ∈ lw_all := lw_g (lw_at lw_m3 121 rfl) rfl
theorem q734 : (Jvm.Cond.selects "java/lang/String" ({ cls := "java/lang/String", name := "charAt", desc := "(I)C" } : Jvm.MethodName) ({ cls := "java/lang/String", name := "charAt", desc := "(I)C" } : Jvm.MethodName)) ∈ lw_all := lw_g (lw_at lw_m3 122 rfl) rfl
theorem q735 : (Jvm.Cond.code ({ cls := "java/lang/String", name := "charAt", desc := "(I)C" } : Jvm.MethodName) prog_28_method_56_code (2 : Nat) (Option.some Jvm.ClassFile.FieldType.char)) ∈ lw_all := lw_g (lw_at lw_m3 123 rfl) rfl
theorem q736 : (Jvm.Cond.methodLink "java/lang/String" (492 : Nat) ({ cls := "java/lang/String", name := "isLatin1", desc := "()Z" } : Jvm.MethodName)) ∈ lw_all := lw_g (lw_at lw_m3 124 rfl) rfl
theorem q737 : (Jvm.Cond.instanceMethod ({ cls := "java/lang/String", name := "isLatin1", desc := "()Z" } : Jvm.MethodName)) ∈ lw_all := lw_g (lw_at lw_m3 125 rfl) rfl
theorem q738 : (Jvm.Cond.selects "java/lang/String" ({ cls := "java/lang/String", name := "isLatin1", desc := "()Z" } : Jvm.MethodName) ({ cls := "java/lang/String", name := "isLatin1", desc := "()Z" } : Jvm.MethodName)) ∈ lw_all := lw_g (lw_at lw_m3 126 rfl) rfl
theorem q739 : (Jvm.Cond.code ({ cls := "java/lang/String", name := "isLatin1", desc := "()Z" } : Jvm.MethodName) prog_28_method_154_code (1 : Nat) (Option.some Jvm.ClassFile.FieldType.boolean)) ∈ lw_all := lw_g (lw_at lw_m3 127 rfl) rfl
theorem q740 : (Jvm.Cond.methodLink "java/lang/String" (495 : Nat) ({ cls := "java/lang/StringLatin1", name := "charAt", desc := "([BI)C" } : Jvm.MethodName)) ∈ lw_all := lw_g (lw_at lw_m3 128 rfl) rfl
theorem q744 : (Jvm.Cond.static ({ cls := "java/lang/String", name := "checkIndex", desc := "(II)V" } : Jvm.MethodName)) ∈ lw_all := lw_g (lw_at lw_m3 132 rfl) rfl
theorem q745 : (Jvm.Cond.code ({ cls := "java/lang/String", name := "checkIndex", desc := "(II)V" } : Jvm.MethodName) prog_28_method_155_code (2 : Nat) (Option.none : Option Jvm.ClassFile.FieldType)) ∈ lw_all := lw_g (lw_at lw_m3 133 rfl) rfl
theorem q746 : (Jvm.Cond.fieldLink "java/lang/String" (1053 : Nat) "jdk/internal/util/Preconditions" "SIOOBE_FORMATTER" "Ljava/util/function/BiFunction;") ∈ lw_all := lw_g (lw_at lw_m3 134 rfl) rfl
theorem q748 : (Jvm.Cond.methodLink "java/lang/String" (1059 : Nat) ({ cls := "jdk/internal/util/Preconditions", name := "checkIndex", desc := "(IILjava/util/function/BiFunction;)I" } : Jvm.MethodName)) ∈ lw_all := lw_g (lw_at lw_m3 136 rfl) rfl
theorem q751 : (Jvm.Cond.methodLink "java/lang/String" (498 : Nat) ({ cls := "java/lang/StringUTF16", name := "charAt", desc := "([BI)C" } : Jvm.MethodName)) ∈ lw_all := lw_g (lw_at lw_m3 139 rfl) rfl
theorem q2131 : (Jvm.Cond.castable "java/lang/String" "java/lang/Object") ∈ lw_tbl := lw_at lw_m9 79 rfl
theorem q2144 : (Jvm.Cond.fieldLink "java/lang/String" (9 : Nat) "java/lang/String" "value" "[B") ∈ lw_all := lw_g (lw_at lw_m9 92 rfl) rfl
theorem q2145 : (Jvm.Cond.fieldLink "java/lang/String" (15 : Nat) "java/lang/String" "coder" "B") ∈ lw_all := lw_g (lw_at lw_m9 93 rfl) rfl
theorem in_J4 : ∀ w ∈ wsJ40, w ∈ lw_all := lw_in wsJ40 [265, 267] (by decide +kernel) (by decide +kernel)

/-! java/lang/StringLatin1 -/
set_option maxRecDepth 100000
def RJ5 : String := "java/lang/StringLatin1"
abbrev cJ5_charAt : ByteArray := prog_29_method_2_code
def yJ5_charAt : MethodName := ⟨RJ5, "charAt", "([BI)C"⟩
def dkwJ5_charAt_0 : List UInt8 := [27, 42, 190, 184, 0, 9, 42, 27, 51, 17, 0, 255, 126, 146, 172]
abbrev dktJ5_charAt_0 : List UInt8 := dkwJ5_charAt_0 ++ []
theorem dksJ5_charAt_0 : cJ5_charAt.data.toList.drop 0 = dktJ5_charAt_0 := by decide +kernel
theorem dJ5_charAt_0 : decode cJ5_charAt 0 = .ok (.iload_n 1, 1) := dk_27 (dk_at dksJ5_charAt_0 0 rfl rfl)
theorem dJ5_charAt_1 : decode cJ5_charAt 1 = .ok (.aload_n 0, 1) := dk_42 (dk_at dksJ5_charAt_0 1 rfl rfl)
theorem dJ5_charAt_2 : decode cJ5_charAt 2 = .ok (.arraylength, 1) := dk_190 (dk_at dksJ5_charAt_0 2 rfl rfl)
theorem dJ5_charAt_3 : decode cJ5_charAt 3 = .ok (.invokestatic 9, 3) := dk_184 0 9 (dk_at dksJ5_charAt_0 3 rfl rfl)
theorem dJ5_charAt_6 : decode cJ5_charAt 6 = .ok (.aload_n 0, 1) := dk_42 (dk_at dksJ5_charAt_0 6 rfl rfl)
theorem dJ5_charAt_7 : decode cJ5_charAt 7 = .ok (.iload_n 1, 1) := dk_27 (dk_at dksJ5_charAt_0 7 rfl rfl)
theorem dJ5_charAt_8 : decode cJ5_charAt 8 = .ok (.baload, 1) := dk_51 (dk_at dksJ5_charAt_0 8 rfl rfl)
theorem dJ5_charAt_9 : decode cJ5_charAt 9 = .ok (.sipush 255, 3) := dk_17 0 255 (dk_at dksJ5_charAt_0 9 rfl rfl)
theorem dJ5_charAt_12 : decode cJ5_charAt 12 = .ok (.iand, 1) := dk_126 (dk_at dksJ5_charAt_0 12 rfl rfl)
theorem dJ5_charAt_13 : decode cJ5_charAt 13 = .ok (.i2c, 1) := dk_146 (dk_at dksJ5_charAt_0 13 rfl rfl)
theorem dJ5_charAt_14 : decode cJ5_charAt 14 = .ok (.ireturn, 1) := dk_172 (dk_at dksJ5_charAt_0 14 rfl rfl)
theorem q145 : (Jvm.Cond.initialized "java/lang/StringLatin1") ∈ lw_all := lw_g (lw_at lw_m1 13 rfl) rfl
theorem q741 : (Jvm.Cond.static ({ cls := "java/lang/StringLatin1", name := "charAt", desc := "([BI)C" } : Jvm.MethodName)) ∈ lw_all := lw_g (lw_at lw_m3 129 rfl) rfl
theorem q742 : (Jvm.Cond.code ({ cls := "java/lang/StringLatin1", name := "charAt", desc := "([BI)C" } : Jvm.MethodName) prog_29_method_2_code (2 : Nat) (Option.some Jvm.ClassFile.FieldType.char)) ∈ lw_all := lw_g (lw_at lw_m3 130 rfl) rfl
theorem q743 : (Jvm.Cond.methodLink "java/lang/StringLatin1" (9 : Nat) ({ cls := "java/lang/String", name := "checkIndex", desc := "(II)V" } : Jvm.MethodName)) ∈ lw_all := lw_g (lw_at lw_m3 131 rfl) rfl

/-! jdk/internal/util/Preconditions -/
set_option maxRecDepth 100000
def RJ6 : String := "jdk/internal/util/Preconditions"
abbrev cJ6_checkIndex : ByteArray := prog_45_method_11_code
def yJ6_checkIndex : MethodName := ⟨RJ6, "checkIndex", "(IILjava/util/function/BiFunction;)I"⟩
def dkwJ6_checkIndex_0 : List UInt8 := [26, 155, 0, 8, 26, 27, 161, 0, 10, 44, 26, 27, 184, 0, 95, 191, 26, 172]
abbrev dktJ6_checkIndex_0 : List UInt8 := dkwJ6_checkIndex_0 ++ []
theorem dksJ6_checkIndex_0 : cJ6_checkIndex.data.toList.drop 0 = dktJ6_checkIndex_0 := by decide +kernel
theorem dJ6_checkIndex_0 : decode cJ6_checkIndex 0 = .ok (.iload_n 0, 1) := dk_26 (dk_at dksJ6_checkIndex_0 0 rfl rfl)
theorem dJ6_checkIndex_1 : decode cJ6_checkIndex 1 = .ok (.ifCond .lt 8, 3) := dk_155 0 8 (dk_at dksJ6_checkIndex_0 1 rfl rfl)
theorem dJ6_checkIndex_4 : decode cJ6_checkIndex 4 = .ok (.iload_n 0, 1) := dk_26 (dk_at dksJ6_checkIndex_0 4 rfl rfl)
theorem dJ6_checkIndex_5 : decode cJ6_checkIndex 5 = .ok (.iload_n 1, 1) := dk_27 (dk_at dksJ6_checkIndex_0 5 rfl rfl)
theorem dJ6_checkIndex_6 : decode cJ6_checkIndex 6 = .ok (.if_icmp .lt 10, 3) := dk_161 0 10 (dk_at dksJ6_checkIndex_0 6 rfl rfl)
theorem dJ6_checkIndex_9 : decode cJ6_checkIndex 9 = .ok (.aload_n 2, 1) := dk_44 (dk_at dksJ6_checkIndex_0 9 rfl rfl)
theorem dJ6_checkIndex_10 : decode cJ6_checkIndex 10 = .ok (.iload_n 0, 1) := dk_26 (dk_at dksJ6_checkIndex_0 10 rfl rfl)
theorem dJ6_checkIndex_11 : decode cJ6_checkIndex 11 = .ok (.iload_n 1, 1) := dk_27 (dk_at dksJ6_checkIndex_0 11 rfl rfl)
theorem dJ6_checkIndex_12 : decode cJ6_checkIndex 12 = .ok (.invokestatic 95, 3) := dk_184 0 95 (dk_at dksJ6_checkIndex_0 12 rfl rfl)
theorem dJ6_checkIndex_15 : decode cJ6_checkIndex 15 = .ok (.athrow, 1) := dk_191 (dk_at dksJ6_checkIndex_0 15 rfl rfl)
theorem dJ6_checkIndex_16 : decode cJ6_checkIndex 16 = .ok (.iload_n 0, 1) := dk_26 (dk_at dksJ6_checkIndex_0 16 rfl rfl)
theorem dJ6_checkIndex_17 : decode cJ6_checkIndex 17 = .ok (.ireturn, 1) := dk_172 (dk_at dksJ6_checkIndex_0 17 rfl rfl)
theorem q146 : (Jvm.Cond.initialized "jdk/internal/util/Preconditions") ∈ lw_all := lw_g (lw_at lw_m1 14 rfl) rfl
theorem q747 : (Jvm.Cond.laysStatic "jdk/internal/util/Preconditions" "SIOOBE_FORMATTER" "Ljava/util/function/BiFunction;") ∈ lw_tbl := lw_at lw_m3 135 rfl
theorem q749 : (Jvm.Cond.static ({ cls := "jdk/internal/util/Preconditions", name := "checkIndex", desc := "(IILjava/util/function/BiFunction;)I" } : Jvm.MethodName)) ∈ lw_all := lw_g (lw_at lw_m3 137 rfl) rfl
theorem q750 : (Jvm.Cond.code ({ cls := "jdk/internal/util/Preconditions", name := "checkIndex", desc := "(IILjava/util/function/BiFunction;)I" } : Jvm.MethodName) prog_45_method_11_code (3 : Nat) (Option.some Jvm.ClassFile.FieldType.int)) ∈ lw_all := lw_g (lw_at lw_m3 138 rfl) rfl

/-! java/lang/StringUTF16 -/
set_option maxRecDepth 100000
def RJ7 : String := "java/lang/StringUTF16"
abbrev cJ7_charAt : ByteArray := prog_30_method_83_code
def yJ7_charAt : MethodName := ⟨RJ7, "charAt", "([BI)C"⟩
def dkwJ7_charAt_0 : List UInt8 := [27, 42, 184, 0, 67, 42, 27, 184, 0, 71, 172]
abbrev dktJ7_charAt_0 : List UInt8 := dkwJ7_charAt_0 ++ []
theorem dksJ7_charAt_0 : cJ7_charAt.data.toList.drop 0 = dktJ7_charAt_0 := by decide +kernel
theorem dJ7_charAt_0 : decode cJ7_charAt 0 = .ok (.iload_n 1, 1) := dk_27 (dk_at dksJ7_charAt_0 0 rfl rfl)
theorem dJ7_charAt_1 : decode cJ7_charAt 1 = .ok (.aload_n 0, 1) := dk_42 (dk_at dksJ7_charAt_0 1 rfl rfl)
theorem dJ7_charAt_2 : decode cJ7_charAt 2 = .ok (.invokestatic 67, 3) := dk_184 0 67 (dk_at dksJ7_charAt_0 2 rfl rfl)
theorem dJ7_charAt_5 : decode cJ7_charAt 5 = .ok (.aload_n 0, 1) := dk_42 (dk_at dksJ7_charAt_0 5 rfl rfl)
theorem dJ7_charAt_6 : decode cJ7_charAt 6 = .ok (.iload_n 1, 1) := dk_27 (dk_at dksJ7_charAt_0 6 rfl rfl)
theorem dJ7_charAt_7 : decode cJ7_charAt 7 = .ok (.invokestatic 71, 3) := dk_184 0 71 (dk_at dksJ7_charAt_0 7 rfl rfl)
theorem dJ7_charAt_10 : decode cJ7_charAt 10 = .ok (.ireturn, 1) := dk_172 (dk_at dksJ7_charAt_0 10 rfl rfl)
abbrev cJ7_checkIndex : ByteArray := prog_30_method_91_code
def yJ7_checkIndex : MethodName := ⟨RJ7, "checkIndex", "(I[B)V"⟩
def dkwJ7_checkIndex_0 : List UInt8 := [26, 43, 184, 0, 48, 184, 1, 158, 177]
abbrev dktJ7_checkIndex_0 : List UInt8 := dkwJ7_checkIndex_0 ++ []
theorem dksJ7_checkIndex_0 : cJ7_checkIndex.data.toList.drop 0 = dktJ7_checkIndex_0 := by decide +kernel
theorem dJ7_checkIndex_0 : decode cJ7_checkIndex 0 = .ok (.iload_n 0, 1) := dk_26 (dk_at dksJ7_checkIndex_0 0 rfl rfl)
theorem dJ7_checkIndex_1 : decode cJ7_checkIndex 1 = .ok (.aload_n 1, 1) := dk_43 (dk_at dksJ7_checkIndex_0 1 rfl rfl)
theorem dJ7_checkIndex_2 : decode cJ7_checkIndex 2 = .ok (.invokestatic 48, 3) := dk_184 0 48 (dk_at dksJ7_checkIndex_0 2 rfl rfl)
theorem dJ7_checkIndex_5 : decode cJ7_checkIndex 5 = .ok (.invokestatic 414, 3) := dk_184 1 158 (dk_at dksJ7_checkIndex_0 5 rfl rfl)
theorem dJ7_checkIndex_8 : decode cJ7_checkIndex 8 = .ok (.return_, 1) := dk_177 (dk_at dksJ7_checkIndex_0 8 rfl rfl)
abbrev cJ7_length : ByteArray := prog_30_method_6_code
def yJ7_length : MethodName := ⟨RJ7, "length", "([B)I"⟩
def dkwJ7_length_0 : List UInt8 := [42, 190, 4, 122, 172]
abbrev dktJ7_length_0 : List UInt8 := dkwJ7_length_0 ++ []
theorem dksJ7_length_0 : cJ7_length.data.toList.drop 0 = dktJ7_length_0 := by decide +kernel
theorem dJ7_length_0 : decode cJ7_length 0 = .ok (.aload_n 0, 1) := dk_42 (dk_at dksJ7_length_0 0 rfl rfl)
theorem dJ7_length_1 : decode cJ7_length 1 = .ok (.arraylength, 1) := dk_190 (dk_at dksJ7_length_0 1 rfl rfl)
theorem dJ7_length_2 : decode cJ7_length 2 = .ok (.iconst 1, 1) := dk_4 (dk_at dksJ7_length_0 2 rfl rfl)
theorem dJ7_length_3 : decode cJ7_length 3 = .ok (.ishr, 1) := dk_122 (dk_at dksJ7_length_0 3 rfl rfl)
theorem dJ7_length_4 : decode cJ7_length 4 = .ok (.ireturn, 1) := dk_172 (dk_at dksJ7_length_0 4 rfl rfl)
abbrev cJ7_getChar : ByteArray := prog_30_method_5_code
def yJ7_getChar : MethodName := ⟨RJ7, "getChar", "([BI)C"⟩
def dkwJ7_getChar_2 : List UInt8 := [51, 17, 0, 255, 126, 178, 0, 63, 120, 128, 146, 172]
abbrev dktJ7_getChar_2 : List UInt8 := dkwJ7_getChar_2 ++ []
def dkwJ7_getChar_1 : List UInt8 := [183, 0, 56, 191, 27, 4, 120, 60, 42, 27, 132, 1, 1, 51, 17, 0, 255, 126, 178, 0, 59, 120, 42, 27]
abbrev dktJ7_getChar_1 : List UInt8 := dkwJ7_getChar_1 ++ dktJ7_getChar_2
def dkwJ7_getChar_0 : List UInt8 := [178, 0, 44, 154, 0, 25, 27, 155, 0, 11, 27, 42, 184, 0, 48, 161, 0, 13, 187, 0, 52, 89, 18, 54]
abbrev dktJ7_getChar_0 : List UInt8 := dkwJ7_getChar_0 ++ dktJ7_getChar_1
theorem dksJ7_getChar_0 : cJ7_getChar.data.toList.drop 0 = dktJ7_getChar_0 := by decide +kernel
theorem dksJ7_getChar_1 : cJ7_getChar.data.toList.drop 24 = dktJ7_getChar_1 := dk_seg dksJ7_getChar_0 24 rfl rfl
theorem dksJ7_getChar_2 : cJ7_getChar.data.toList.drop 48 = dktJ7_getChar_2 := dk_seg dksJ7_getChar_1 24 rfl rfl
theorem dJ7_getChar_0 : decode cJ7_getChar 0 = .ok (.getstatic 44, 3) := dk_178 0 44 (dk_at dksJ7_getChar_0 0 rfl rfl)
theorem dJ7_getChar_3 : decode cJ7_getChar 3 = .ok (.ifCond .ne 25, 3) := dk_154 0 25 (dk_at dksJ7_getChar_0 3 rfl rfl)
theorem dJ7_getChar_6 : decode cJ7_getChar 6 = .ok (.iload_n 1, 1) := dk_27 (dk_at dksJ7_getChar_0 6 rfl rfl)
theorem dJ7_getChar_7 : decode cJ7_getChar 7 = .ok (.ifCond .lt 11, 3) := dk_155 0 11 (dk_at dksJ7_getChar_0 7 rfl rfl)
theorem dJ7_getChar_10 : decode cJ7_getChar 10 = .ok (.iload_n 1, 1) := dk_27 (dk_at dksJ7_getChar_0 10 rfl rfl)
theorem dJ7_getChar_11 : decode cJ7_getChar 11 = .ok (.aload_n 0, 1) := dk_42 (dk_at dksJ7_getChar_0 11 rfl rfl)
theorem dJ7_getChar_12 : decode cJ7_getChar 12 = .ok (.invokestatic 48, 3) := dk_184 0 48 (dk_at dksJ7_getChar_0 12 rfl rfl)
theorem dJ7_getChar_15 : decode cJ7_getChar 15 = .ok (.if_icmp .lt 13, 3) := dk_161 0 13 (dk_at dksJ7_getChar_0 15 rfl rfl)
theorem dJ7_getChar_18 : decode cJ7_getChar 18 = .ok (.new 52, 3) := dk_187 0 52 (dk_at dksJ7_getChar_0 18 rfl rfl)
theorem dJ7_getChar_21 : decode cJ7_getChar 21 = .ok (.dup, 1) := dk_89 (dk_at dksJ7_getChar_0 21 rfl rfl)
theorem dJ7_getChar_22 : decode cJ7_getChar 22 = .ok (.ldc 54, 2) := dk_18 54 (dk_at dksJ7_getChar_0 22 rfl rfl)
theorem dJ7_getChar_24 : decode cJ7_getChar 24 = .ok (.invokespecial 56, 3) := dk_183 0 56 (dk_at dksJ7_getChar_1 0 rfl rfl)
theorem dJ7_getChar_27 : decode cJ7_getChar 27 = .ok (.athrow, 1) := dk_191 (dk_at dksJ7_getChar_1 3 rfl rfl)
theorem dJ7_getChar_28 : decode cJ7_getChar 28 = .ok (.iload_n 1, 1) := dk_27 (dk_at dksJ7_getChar_1 4 rfl rfl)
theorem dJ7_getChar_29 : decode cJ7_getChar 29 = .ok (.iconst 1, 1) := dk_4 (dk_at dksJ7_getChar_1 5 rfl rfl)
theorem dJ7_getChar_30 : decode cJ7_getChar 30 = .ok (.ishl, 1) := dk_120 (dk_at dksJ7_getChar_1 6 rfl rfl)
theorem dJ7_getChar_31 : decode cJ7_getChar 31 = .ok (.istore_n 1, 1) := dk_60 (dk_at dksJ7_getChar_1 7 rfl rfl)
theorem dJ7_getChar_32 : decode cJ7_getChar 32 = .ok (.aload_n 0, 1) := dk_42 (dk_at dksJ7_getChar_1 8 rfl rfl)
theorem dJ7_getChar_33 : decode cJ7_getChar 33 = .ok (.iload_n 1, 1) := dk_27 (dk_at dksJ7_getChar_1 9 rfl rfl)
theorem dJ7_getChar_34 : decode cJ7_getChar 34 = .ok (.iinc 1 1, 3) := dk_132 1 1 (dk_at dksJ7_getChar_1 10 rfl rfl)
theorem dJ7_getChar_37 : decode cJ7_getChar 37 = .ok (.baload, 1) := dk_51 (dk_at dksJ7_getChar_1 13 rfl rfl)
theorem dJ7_getChar_38 : decode cJ7_getChar 38 = .ok (.sipush 255, 3) := dk_17 0 255 (dk_at dksJ7_getChar_1 14 rfl rfl)
theorem dJ7_getChar_41 : decode cJ7_getChar 41 = .ok (.iand, 1) := dk_126 (dk_at dksJ7_getChar_1 17 rfl rfl)
theorem dJ7_getChar_42 : decode cJ7_getChar 42 = .ok (.getstatic 59, 3) := dk_178 0 59 (dk_at dksJ7_getChar_1 18 rfl rfl)
theorem dJ7_getChar_45 : decode cJ7_getChar 45 = .ok (.ishl, 1) := dk_120 (dk_at dksJ7_getChar_1 21 rfl rfl)
theorem dJ7_getChar_46 : decode cJ7_getChar 46 = .ok (.aload_n 0, 1) := dk_42 (dk_at dksJ7_getChar_1 22 rfl rfl)
theorem dJ7_getChar_47 : decode cJ7_getChar 47 = .ok (.iload_n 1, 1) := dk_27 (dk_at dksJ7_getChar_1 23 rfl rfl)
theorem dJ7_getChar_48 : decode cJ7_getChar 48 = .ok (.baload, 1) := dk_51 (dk_at dksJ7_getChar_2 0 rfl rfl)
theorem dJ7_getChar_49 : decode cJ7_getChar 49 = .ok (.sipush 255, 3) := dk_17 0 255 (dk_at dksJ7_getChar_2 1 rfl rfl)
theorem dJ7_getChar_52 : decode cJ7_getChar 52 = .ok (.iand, 1) := dk_126 (dk_at dksJ7_getChar_2 4 rfl rfl)
theorem dJ7_getChar_53 : decode cJ7_getChar 53 = .ok (.getstatic 63, 3) := dk_178 0 63 (dk_at dksJ7_getChar_2 5 rfl rfl)
theorem dJ7_getChar_56 : decode cJ7_getChar 56 = .ok (.ishl, 1) := dk_120 (dk_at dksJ7_getChar_2 8 rfl rfl)
theorem dJ7_getChar_57 : decode cJ7_getChar 57 = .ok (.ior, 1) := dk_128 (dk_at dksJ7_getChar_2 9 rfl rfl)
theorem dJ7_getChar_58 : decode cJ7_getChar 58 = .ok (.i2c, 1) := dk_146 (dk_at dksJ7_getChar_2 10 rfl rfl)
theorem dJ7_getChar_59 : decode cJ7_getChar 59 = .ok (.ireturn, 1) := dk_172 (dk_at dksJ7_getChar_2 11 rfl rfl)
theorem q147 : (Jvm.Cond.initialized "java/lang/StringUTF16") ∈ lw_all := lw_g (lw_at lw_m1 15 rfl) rfl
theorem q752 : (Jvm.Cond.static ({ cls := "java/lang/StringUTF16", name := "charAt", desc := "([BI)C" } : Jvm.MethodName)) ∈ lw_all := lw_g (lw_at lw_m3 140 rfl) rfl
theorem q753 : (Jvm.Cond.code ({ cls := "java/lang/StringUTF16", name := "charAt", desc := "([BI)C" } : Jvm.MethodName) prog_30_method_83_code (2 : Nat) (Option.some Jvm.ClassFile.FieldType.char)) ∈ lw_all := lw_g (lw_at lw_m3 141 rfl) rfl
theorem q754 : (Jvm.Cond.methodLink "java/lang/StringUTF16" (67 : Nat) ({ cls := "java/lang/StringUTF16", name := "checkIndex", desc := "(I[B)V" } : Jvm.MethodName)) ∈ lw_all := lw_g (lw_at lw_m3 142 rfl) rfl
theorem q755 : (Jvm.Cond.static ({ cls := "java/lang/StringUTF16", name := "checkIndex", desc := "(I[B)V" } : Jvm.MethodName)) ∈ lw_all := lw_g (lw_at lw_m3 143 rfl) rfl
theorem q756 : (Jvm.Cond.code ({ cls := "java/lang/StringUTF16", name := "checkIndex", desc := "(I[B)V" } : Jvm.MethodName) prog_30_method_91_code (2 : Nat) (Option.none : Option Jvm.ClassFile.FieldType)) ∈ lw_all := lw_g (lw_at lw_m3 144 rfl) rfl
theorem q757 : (Jvm.Cond.methodLink "java/lang/StringUTF16" (48 : Nat) ({ cls := "java/lang/StringUTF16", name := "length", desc := "([B)I" } : Jvm.MethodName)) ∈ lw_all := lw_g (lw_at lw_m3 145 rfl) rfl
theorem q758 : (Jvm.Cond.static ({ cls := "java/lang/StringUTF16", name := "length", desc := "([B)I" } : Jvm.MethodName)) ∈ lw_all := lw_g (lw_at lw_m3 146 rfl) rfl
theorem q759 : (Jvm.Cond.code ({ cls := "java/lang/StringUTF16", name := "length", desc := "([B)I" } : Jvm.MethodName) prog_30_method_6_code (1 : Nat) (Option.some Jvm.ClassFile.FieldType.int)) ∈ lw_all := lw_g (lw_at lw_m3 147 rfl) rfl
theorem q760 : (Jvm.Cond.methodLink "java/lang/StringUTF16" (414 : Nat) ({ cls := "java/lang/String", name := "checkIndex", desc := "(II)V" } : Jvm.MethodName)) ∈ lw_all := lw_g (lw_at lw_m3 148 rfl) rfl
theorem q761 : (Jvm.Cond.methodLink "java/lang/StringUTF16" (71 : Nat) ({ cls := "java/lang/StringUTF16", name := "getChar", desc := "([BI)C" } : Jvm.MethodName)) ∈ lw_all := lw_g (lw_at lw_m3 149 rfl) rfl
theorem q762 : (Jvm.Cond.static ({ cls := "java/lang/StringUTF16", name := "getChar", desc := "([BI)C" } : Jvm.MethodName)) ∈ lw_all := lw_g (lw_at lw_m3 150 rfl) rfl
theorem q763 : (Jvm.Cond.code ({ cls := "java/lang/StringUTF16", name := "getChar", desc := "([BI)C" } : Jvm.MethodName) prog_30_method_5_code (2 : Nat) (Option.some Jvm.ClassFile.FieldType.char)) ∈ lw_all := lw_g (lw_at lw_m3 151 rfl) rfl
theorem q764 : (Jvm.Cond.fieldLink "java/lang/StringUTF16" (44 : Nat) "java/lang/StringUTF16" "$assertionsDisabled" "Z") ∈ lw_all := lw_g (lw_at lw_m3 152 rfl) rfl
theorem q765 : (Jvm.Cond.laysStatic "java/lang/StringUTF16" "$assertionsDisabled" "Z") ∈ lw_tbl := lw_at lw_m3 153 rfl
theorem q766 : (Jvm.Cond.fieldLink "java/lang/StringUTF16" (59 : Nat) "java/lang/StringUTF16" "HI_BYTE_SHIFT" "I") ∈ lw_all := lw_g (lw_at lw_m3 154 rfl) rfl
theorem q767 : (Jvm.Cond.laysStatic "java/lang/StringUTF16" "HI_BYTE_SHIFT" "I") ∈ lw_tbl := lw_at lw_m3 155 rfl
theorem q768 : (Jvm.Cond.fieldLink "java/lang/StringUTF16" (63 : Nat) "java/lang/StringUTF16" "LO_BYTE_SHIFT" "I") ∈ lw_all := lw_g (lw_at lw_m3 156 rfl) rfl
theorem q769 : (Jvm.Cond.laysStatic "java/lang/StringUTF16" "LO_BYTE_SHIFT" "I") ∈ lw_tbl := lw_at lw_m3 157 rfl

/-! java/lang/Throwable -/
set_option maxRecDepth 100000
def RJ8 : String := "java/lang/Throwable"
def TJ8 : u_T := fun k => match k with
  | 0 => ("java/lang/Throwable", "cause", "Ljava/lang/Throwable;", false)
  | 1 => ("java/lang/Throwable", "stackTrace", "[Ljava/lang/StackTraceElement;", false)
  | 2 => ("java/lang/Throwable", "suppressedExceptions", "Ljava/util/List;", false)
  | 3 => ("java/lang/Throwable", "detailMessage", "Ljava/lang/String;", false)
  | _ => ("java/lang/Throwable", "backtrace", "Ljava/lang/Object;", false)
def tyJ8 : Nat → FieldType := fun k => match k with
  | 0 => .object "java/lang/Throwable"
  | 1 => .array (.object "java/lang/StackTraceElement")
  | 2 => .object "java/util/List"
  | 3 => .object "java/lang/String"
  | _ => .object "java/lang/Object"
abbrev wsJ80 : List Cond := u_ws RJ8 TJ8 5
theorem nmJ8 : ∀ a, a < 5 → ∀ b, b < 5 → a ≠ b → (TJ8 a).2.1 ≠ (TJ8 b).2.1 := by decide +kernel
theorem tyJ8_ok : ∀ k, k < 5 → parseFieldDescriptor (TJ8 k).2.2.1 = some (tyJ8 k) := by decide +kernel
abbrev cJ8_init : ByteArray := prog_32_method_2_code
def yJ8_init : MethodName := ⟨RJ8, "<init>", "(Ljava/lang/String;)V"⟩
def dkwJ8_init_1 : List UInt8 := [182, 0, 27, 87, 42, 43, 181, 0, 31, 177]
abbrev dktJ8_init_1 : List UInt8 := dkwJ8_init_1 ++ []
def dkwJ8_init_0 : List UInt8 := [42, 183, 0, 1, 42, 42, 181, 0, 7, 42, 178, 0, 13, 181, 0, 17, 42, 178, 0, 20, 181, 0, 24, 42]
abbrev dktJ8_init_0 : List UInt8 := dkwJ8_init_0 ++ dktJ8_init_1
theorem dksJ8_init_0 : cJ8_init.data.toList.drop 0 = dktJ8_init_0 := by decide +kernel
theorem dksJ8_init_1 : cJ8_init.data.toList.drop 24 = dktJ8_init_1 := dk_seg dksJ8_init_0 24 rfl rfl
theorem dJ8_init_0 : decode cJ8_init 0 = .ok (.aload_n 0, 1) := dk_42 (dk_at dksJ8_init_0 0 rfl rfl)
theorem dJ8_init_1 : decode cJ8_init 1 = .ok (.invokespecial 1, 3) := dk_183 0 1 (dk_at dksJ8_init_0 1 rfl rfl)
theorem dJ8_init_4 : decode cJ8_init 4 = .ok (.aload_n 0, 1) := dk_42 (dk_at dksJ8_init_0 4 rfl rfl)
theorem dJ8_init_5 : decode cJ8_init 5 = .ok (.aload_n 0, 1) := dk_42 (dk_at dksJ8_init_0 5 rfl rfl)
theorem dJ8_init_6 : decode cJ8_init 6 = .ok (.putfield 7, 3) := dk_181 0 7 (dk_at dksJ8_init_0 6 rfl rfl)
theorem dJ8_init_9 : decode cJ8_init 9 = .ok (.aload_n 0, 1) := dk_42 (dk_at dksJ8_init_0 9 rfl rfl)
theorem dJ8_init_10 : decode cJ8_init 10 = .ok (.getstatic 13, 3) := dk_178 0 13 (dk_at dksJ8_init_0 10 rfl rfl)
theorem dJ8_init_13 : decode cJ8_init 13 = .ok (.putfield 17, 3) := dk_181 0 17 (dk_at dksJ8_init_0 13 rfl rfl)
theorem dJ8_init_16 : decode cJ8_init 16 = .ok (.aload_n 0, 1) := dk_42 (dk_at dksJ8_init_0 16 rfl rfl)
theorem dJ8_init_17 : decode cJ8_init 17 = .ok (.getstatic 20, 3) := dk_178 0 20 (dk_at dksJ8_init_0 17 rfl rfl)
theorem dJ8_init_20 : decode cJ8_init 20 = .ok (.putfield 24, 3) := dk_181 0 24 (dk_at dksJ8_init_0 20 rfl rfl)
theorem dJ8_init_23 : decode cJ8_init 23 = .ok (.aload_n 0, 1) := dk_42 (dk_at dksJ8_init_0 23 rfl rfl)
theorem dJ8_init_24 : decode cJ8_init 24 = .ok (.invokevirtual 27, 3) := dk_182 0 27 (dk_at dksJ8_init_1 0 rfl rfl)
theorem dJ8_init_27 : decode cJ8_init 27 = .ok (.pop, 1) := dk_87 (dk_at dksJ8_init_1 3 rfl rfl)
theorem dJ8_init_28 : decode cJ8_init 28 = .ok (.aload_n 0, 1) := dk_42 (dk_at dksJ8_init_1 4 rfl rfl)
theorem dJ8_init_29 : decode cJ8_init 29 = .ok (.aload_n 1, 1) := dk_43 (dk_at dksJ8_init_1 5 rfl rfl)
theorem dJ8_init_30 : decode cJ8_init 30 = .ok (.putfield 31, 3) := dk_181 0 31 (dk_at dksJ8_init_1 6 rfl rfl)
theorem dJ8_init_33 : decode cJ8_init 33 = .ok (.return_, 1) := dk_177 (dk_at dksJ8_init_1 9 rfl rfl)
abbrev cJ8_init_2 : ByteArray := prog_32_method_1_code
def yJ8_init_2 : MethodName := ⟨RJ8, "<init>", "()V"⟩
def dkwJ8_init_2_1 : List UInt8 := [182, 0, 27, 87, 177]
abbrev dktJ8_init_2_1 : List UInt8 := dkwJ8_init_2_1 ++ []
def dkwJ8_init_2_0 : List UInt8 := [42, 183, 0, 1, 42, 42, 181, 0, 7, 42, 178, 0, 13, 181, 0, 17, 42, 178, 0, 20, 181, 0, 24, 42]
abbrev dktJ8_init_2_0 : List UInt8 := dkwJ8_init_2_0 ++ dktJ8_init_2_1
theorem dksJ8_init_2_0 : cJ8_init_2.data.toList.drop 0 = dktJ8_init_2_0 := by decide +kernel
theorem dksJ8_init_2_1 : cJ8_init_2.data.toList.drop 24 = dktJ8_init_2_1 := dk_seg dksJ8_init_2_0 24 rfl rfl
theorem dJ8_init_2_0 : decode cJ8_init_2 0 = .ok (.aload_n 0, 1) := dk_42 (dk_at dksJ8_init_2_0 0 rfl rfl)
theorem dJ8_init_2_1 : decode cJ8_init_2 1 = .ok (.invokespecial 1, 3) := dk_183 0 1 (dk_at dksJ8_init_2_0 1 rfl rfl)
theorem dJ8_init_2_4 : decode cJ8_init_2 4 = .ok (.aload_n 0, 1) := dk_42 (dk_at dksJ8_init_2_0 4 rfl rfl)
theorem dJ8_init_2_5 : decode cJ8_init_2 5 = .ok (.aload_n 0, 1) := dk_42 (dk_at dksJ8_init_2_0 5 rfl rfl)
theorem dJ8_init_2_6 : decode cJ8_init_2 6 = .ok (.putfield 7, 3) := dk_181 0 7 (dk_at dksJ8_init_2_0 6 rfl rfl)
theorem dJ8_init_2_9 : decode cJ8_init_2 9 = .ok (.aload_n 0, 1) := dk_42 (dk_at dksJ8_init_2_0 9 rfl rfl)
theorem dJ8_init_2_10 : decode cJ8_init_2 10 = .ok (.getstatic 13, 3) := dk_178 0 13 (dk_at dksJ8_init_2_0 10 rfl rfl)
theorem dJ8_init_2_13 : decode cJ8_init_2 13 = .ok (.putfield 17, 3) := dk_181 0 17 (dk_at dksJ8_init_2_0 13 rfl rfl)
theorem dJ8_init_2_16 : decode cJ8_init_2 16 = .ok (.aload_n 0, 1) := dk_42 (dk_at dksJ8_init_2_0 16 rfl rfl)
theorem dJ8_init_2_17 : decode cJ8_init_2 17 = .ok (.getstatic 20, 3) := dk_178 0 20 (dk_at dksJ8_init_2_0 17 rfl rfl)
theorem dJ8_init_2_20 : decode cJ8_init_2 20 = .ok (.putfield 24, 3) := dk_181 0 24 (dk_at dksJ8_init_2_0 20 rfl rfl)
theorem dJ8_init_2_23 : decode cJ8_init_2 23 = .ok (.aload_n 0, 1) := dk_42 (dk_at dksJ8_init_2_0 23 rfl rfl)
theorem dJ8_init_2_24 : decode cJ8_init_2 24 = .ok (.invokevirtual 27, 3) := dk_182 0 27 (dk_at dksJ8_init_2_1 0 rfl rfl)
theorem dJ8_init_2_27 : decode cJ8_init_2 27 = .ok (.pop, 1) := dk_87 (dk_at dksJ8_init_2_1 3 rfl rfl)
theorem dJ8_init_2_28 : decode cJ8_init_2 28 = .ok (.return_, 1) := dk_177 (dk_at dksJ8_init_2_1 4 rfl rfl)
abbrev cJ8_init_3 : ByteArray := prog_32_method_5_code
def yJ8_init_3 : MethodName := ⟨RJ8, "<init>", "(Ljava/lang/String;Ljava/lang/Throwable;ZZ)V"⟩
def dkwJ8_init_3_2 : List UInt8 := [44, 181, 0, 7, 29, 154, 0, 8, 42, 1, 181, 0, 24, 177]
abbrev dktJ8_init_3_2 : List UInt8 := dkwJ8_init_3_2 ++ []
def dkwJ8_init_3_1 : List UInt8 := [21, 4, 153, 0, 11, 42, 182, 0, 27, 87, 167, 0, 8, 42, 1, 181, 0, 17, 42, 43, 181, 0, 31, 42]
abbrev dktJ8_init_3_1 : List UInt8 := dkwJ8_init_3_1 ++ dktJ8_init_3_2
def dkwJ8_init_3_0 : List UInt8 := [42, 183, 0, 1, 42, 42, 181, 0, 7, 42, 178, 0, 13, 181, 0, 17, 42, 178, 0, 20, 181, 0, 24]
abbrev dktJ8_init_3_0 : List UInt8 := dkwJ8_init_3_0 ++ dktJ8_init_3_1
theorem dksJ8_init_3_0 : cJ8_init_3.data.toList.drop 0 = dktJ8_init_3_0 := by decide +kernel
theorem dksJ8_init_3_1 : cJ8_init_3.data.toList.drop 23 = dktJ8_init_3_1 := dk_seg dksJ8_init_3_0 23 rfl rfl
theorem dksJ8_init_3_2 : cJ8_init_3.data.toList.drop 47 = dktJ8_init_3_2 := dk_seg dksJ8_init_3_1 24 rfl rfl
theorem dJ8_init_3_0 : decode cJ8_init_3 0 = .ok (.aload_n 0, 1) := dk_42 (dk_at dksJ8_init_3_0 0 rfl rfl)
theorem dJ8_init_3_1 : decode cJ8_init_3 1 = .ok (.invokespecial 1, 3) := dk_183 0 1 (dk_at dksJ8_init_3_0 1 rfl rfl)
theorem dJ8_init_3_4 : decode cJ8_init_3 4 = .ok (.aload_n 0, 1) := dk_42 (dk_at dksJ8_init_3_0 4 rfl rfl)
theorem dJ8_init_3_5 : decode cJ8_init_3 5 = .ok (.aload_n 0, 1) := dk_42 (dk_at dksJ8_init_3_0 5 rfl rfl)
theorem dJ8_init_3_6 : decode cJ8_init_3 6 = .ok (.putfield 7, 3) := dk_181 0 7 (dk_at dksJ8_init_3_0 6 rfl rfl)
theorem dJ8_init_3_9 : decode cJ8_init_3 9 = .ok (.aload_n 0, 1) := dk_42 (dk_at dksJ8_init_3_0 9 rfl rfl)
theorem dJ8_init_3_10 : decode cJ8_init_3 10 = .ok (.getstatic 13, 3) := dk_178 0 13 (dk_at dksJ8_init_3_0 10 rfl rfl)
theorem dJ8_init_3_13 : decode cJ8_init_3 13 = .ok (.putfield 17, 3) := dk_181 0 17 (dk_at dksJ8_init_3_0 13 rfl rfl)
theorem dJ8_init_3_16 : decode cJ8_init_3 16 = .ok (.aload_n 0, 1) := dk_42 (dk_at dksJ8_init_3_0 16 rfl rfl)
theorem dJ8_init_3_17 : decode cJ8_init_3 17 = .ok (.getstatic 20, 3) := dk_178 0 20 (dk_at dksJ8_init_3_0 17 rfl rfl)
theorem dJ8_init_3_20 : decode cJ8_init_3 20 = .ok (.putfield 24, 3) := dk_181 0 24 (dk_at dksJ8_init_3_0 20 rfl rfl)
theorem dJ8_init_3_23 : decode cJ8_init_3 23 = .ok (.iload 4, 2) := dk_21 4 (dk_at dksJ8_init_3_1 0 rfl rfl)
theorem dJ8_init_3_25 : decode cJ8_init_3 25 = .ok (.ifCond .eq 11, 3) := dk_153 0 11 (dk_at dksJ8_init_3_1 2 rfl rfl)
theorem dJ8_init_3_28 : decode cJ8_init_3 28 = .ok (.aload_n 0, 1) := dk_42 (dk_at dksJ8_init_3_1 5 rfl rfl)
theorem dJ8_init_3_29 : decode cJ8_init_3 29 = .ok (.invokevirtual 27, 3) := dk_182 0 27 (dk_at dksJ8_init_3_1 6 rfl rfl)
theorem dJ8_init_3_32 : decode cJ8_init_3 32 = .ok (.pop, 1) := dk_87 (dk_at dksJ8_init_3_1 9 rfl rfl)
theorem dJ8_init_3_33 : decode cJ8_init_3 33 = .ok (.goto 8, 3) := dk_167 0 8 (dk_at dksJ8_init_3_1 10 rfl rfl)
theorem dJ8_init_3_36 : decode cJ8_init_3 36 = .ok (.aload_n 0, 1) := dk_42 (dk_at dksJ8_init_3_1 13 rfl rfl)
theorem dJ8_init_3_37 : decode cJ8_init_3 37 = .ok (.aconst_null, 1) := dk_1 (dk_at dksJ8_init_3_1 14 rfl rfl)
theorem dJ8_init_3_38 : decode cJ8_init_3 38 = .ok (.putfield 17, 3) := dk_181 0 17 (dk_at dksJ8_init_3_1 15 rfl rfl)
theorem dJ8_init_3_41 : decode cJ8_init_3 41 = .ok (.aload_n 0, 1) := dk_42 (dk_at dksJ8_init_3_1 18 rfl rfl)
theorem dJ8_init_3_42 : decode cJ8_init_3 42 = .ok (.aload_n 1, 1) := dk_43 (dk_at dksJ8_init_3_1 19 rfl rfl)
theorem dJ8_init_3_43 : decode cJ8_init_3 43 = .ok (.putfield 31, 3) := dk_181 0 31 (dk_at dksJ8_init_3_1 20 rfl rfl)
theorem dJ8_init_3_46 : decode cJ8_init_3 46 = .ok (.aload_n 0, 1) := dk_42 (dk_at dksJ8_init_3_1 23 rfl rfl)
theorem dJ8_init_3_47 : decode cJ8_init_3 47 = .ok (.aload_n 2, 1) := dk_44 (dk_at dksJ8_init_3_2 0 rfl rfl)
theorem dJ8_init_3_48 : decode cJ8_init_3 48 = .ok (.putfield 7, 3) := dk_181 0 7 (dk_at dksJ8_init_3_2 1 rfl rfl)
theorem dJ8_init_3_51 : decode cJ8_init_3 51 = .ok (.iload_n 3, 1) := dk_29 (dk_at dksJ8_init_3_2 4 rfl rfl)
theorem dJ8_init_3_52 : decode cJ8_init_3 52 = .ok (.ifCond .ne 8, 3) := dk_154 0 8 (dk_at dksJ8_init_3_2 5 rfl rfl)
theorem dJ8_init_3_55 : decode cJ8_init_3 55 = .ok (.aload_n 0, 1) := dk_42 (dk_at dksJ8_init_3_2 8 rfl rfl)
theorem dJ8_init_3_56 : decode cJ8_init_3 56 = .ok (.aconst_null, 1) := dk_1 (dk_at dksJ8_init_3_2 9 rfl rfl)
theorem dJ8_init_3_57 : decode cJ8_init_3 57 = .ok (.putfield 24, 3) := dk_181 0 24 (dk_at dksJ8_init_3_2 10 rfl rfl)
theorem dJ8_init_3_60 : decode cJ8_init_3 60 = .ok (.return_, 1) := dk_177 (dk_at dksJ8_init_3_2 13 rfl rfl)
theorem q148 : (Jvm.Cond.initialized "java/lang/Throwable") ∈ lw_all := lw_g (lw_at lw_m1 16 rfl) rfl
theorem q192 : (Jvm.Cond.instanceMethod ({ cls := "java/lang/Throwable", name := "<init>", desc := "(Ljava/lang/String;)V" } : Jvm.MethodName)) ∈ lw_all := lw_g (lw_at lw_m1 60 rfl) rfl
theorem q193 : (Jvm.Cond.code ({ cls := "java/lang/Throwable", name := "<init>", desc := "(Ljava/lang/String;)V" } : Jvm.MethodName) prog_32_method_2_code (2 : Nat) (Option.none : Option Jvm.ClassFile.FieldType)) ∈ lw_all := lw_g (lw_at lw_m1 61 rfl) rfl
theorem q194 : (Jvm.Cond.methodLink "java/lang/Throwable" (1 : Nat) ({ cls := "java/lang/Object", name := "<init>", desc := "()V" } : Jvm.MethodName)) ∈ lw_all := lw_g (lw_at lw_m1 62 rfl) rfl
theorem q197 : (Jvm.Cond.fieldLink "java/lang/Throwable" (13 : Nat) "java/lang/Throwable" "UNASSIGNED_STACK" "[Ljava/lang/StackTraceElement;") ∈ lw_all := lw_g (lw_at lw_m1 65 rfl) rfl
theorem q198 : (Jvm.Cond.laysStatic "java/lang/Throwable" "UNASSIGNED_STACK" "[Ljava/lang/StackTraceElement;") ∈ lw_tbl := lw_at lw_m1 66 rfl
theorem q199 : (Jvm.Cond.fieldLink "java/lang/Throwable" (20 : Nat) "java/lang/Throwable" "SUPPRESSED_SENTINEL" "Ljava/util/List;") ∈ lw_all := lw_g (lw_at lw_m1 67 rfl) rfl
theorem q200 : (Jvm.Cond.laysStatic "java/lang/Throwable" "SUPPRESSED_SENTINEL" "Ljava/util/List;") ∈ lw_tbl := lw_at lw_m1 68 rfl
theorem q201 : (Jvm.Cond.methodLink "java/lang/Throwable" (27 : Nat) ({ cls := "java/lang/Throwable", name := "fillInStackTrace", desc := "()Ljava/lang/Throwable;" } : Jvm.MethodName)) ∈ lw_all := lw_g (lw_at lw_m1 69 rfl) rfl
theorem q202 : (Jvm.Cond.instanceMethod ({ cls := "java/lang/Throwable", name := "fillInStackTrace", desc := "()Ljava/lang/Throwable;" } : Jvm.MethodName)) ∈ lw_all := lw_g (lw_at lw_m1 70 rfl) rfl
theorem q203 : (Jvm.Cond.sameMethod "java/lang/Throwable" "java/lang/Throwable" "fillInStackTrace" "()Ljava/lang/Throwable;") ∈ lw_all := lw_g (lw_at lw_m1 71 rfl) rfl
theorem q218 : (Jvm.Cond.declares ({ cls := "java/lang/Throwable", name := "fillInStackTrace", desc := "()Ljava/lang/Throwable;" } : Jvm.MethodName)) ∈ lw_tbl := lw_at lw_m1 86 rfl
theorem q222 : (Jvm.Cond.codeSync ({ cls := "java/lang/Throwable", name := "fillInStackTrace", desc := "()Ljava/lang/Throwable;" } : Jvm.MethodName) prog_32_method_18_code (1 : Nat) (Option.some (Jvm.ClassFile.FieldType.object "java/lang/Throwable"))) ∈ lw_all := lw_g (lw_at lw_m1 90 rfl) rfl
theorem q223 : (Jvm.Cond.methodLink "java/lang/Throwable" (202 : Nat) ({ cls := "java/lang/Throwable", name := "fillInStackTrace", desc := "(I)Ljava/lang/Throwable;" } : Jvm.MethodName)) ∈ lw_all := lw_g (lw_at lw_m1 91 rfl) rfl
theorem q224 : (Jvm.Cond.privateMethod ({ cls := "java/lang/Throwable", name := "fillInStackTrace", desc := "(I)Ljava/lang/Throwable;" } : Jvm.MethodName)) ∈ lw_tbl := lw_at lw_m1 92 rfl
theorem q225 : (Jvm.Cond.instanceMethod ({ cls := "java/lang/Throwable", name := "fillInStackTrace", desc := "(I)Ljava/lang/Throwable;" } : Jvm.MethodName)) ∈ lw_all := lw_g (lw_at lw_m1 93 rfl) rfl
theorem q226 : (Jvm.Cond.instantiable "java/lang/Throwable" (6 : Nat)) ∈ lw_all := lw_g (lw_at lw_m1 94 rfl) rfl
theorem q227 : (Jvm.Cond.native ({ cls := "java/lang/Throwable", name := "fillInStackTrace", desc := "(I)Ljava/lang/Throwable;" } : Jvm.MethodName)) ∈ lw_all := lw_g (lw_at lw_m1 95 rfl) rfl
theorem q228 : (Jvm.Cond.fieldLink "java/lang/Throwable" (198 : Nat) "java/lang/Throwable" "backtrace" "Ljava/lang/Object;") ∈ lw_all := lw_g (lw_at lw_m1 96 rfl) rfl
theorem q229 : (Jvm.Cond.fieldLink "java/lang/Throwable" (31 : Nat) "java/lang/Throwable" "detailMessage" "Ljava/lang/String;") ∈ lw_all := lw_g (lw_at lw_m1 97 rfl) rfl
theorem q230 : (Jvm.Cond.fieldLink "java/lang/Throwable" (7 : Nat) "java/lang/Throwable" "cause" "Ljava/lang/Throwable;") ∈ lw_all := lw_g (lw_at lw_m1 98 rfl) rfl
theorem q231 : (Jvm.Cond.fieldLink "java/lang/Throwable" (17 : Nat) "java/lang/Throwable" "stackTrace" "[Ljava/lang/StackTraceElement;") ∈ lw_all := lw_g (lw_at lw_m1 99 rfl) rfl
theorem q232 : (Jvm.Cond.fieldLink "java/lang/Throwable" (24 : Nat) "java/lang/Throwable" "suppressedExceptions" "Ljava/util/List;") ∈ lw_all := lw_g (lw_at lw_m1 100 rfl) rfl
theorem q234 : (Jvm.Cond.soleField "java/lang/Throwable" "backtrace") ∈ lw_all := lw_g (lw_at lw_m1 102 rfl) rfl
theorem q236 : (Jvm.Cond.soleField "java/lang/Throwable" "detailMessage") ∈ lw_all := lw_g (lw_at lw_m1 104 rfl) rfl
theorem q238 : (Jvm.Cond.soleField "java/lang/Throwable" "cause") ∈ lw_all := lw_g (lw_at lw_m1 106 rfl) rfl
theorem q240 : (Jvm.Cond.soleField "java/lang/Throwable" "stackTrace") ∈ lw_all := lw_g (lw_at lw_m1 108 rfl) rfl
theorem q242 : (Jvm.Cond.soleField "java/lang/Throwable" "depth") ∈ lw_all := lw_g (lw_at lw_m1 110 rfl) rfl
theorem q244 : (Jvm.Cond.soleField "java/lang/Throwable" "suppressedExceptions") ∈ lw_all := lw_g (lw_at lw_m1 112 rfl) rfl
theorem q251 : (Jvm.Cond.declares ({ cls := "java/lang/Throwable", name := "<init>", desc := "()V" } : Jvm.MethodName)) ∈ lw_tbl := lw_at lw_m1 119 rfl
theorem q252 : (Jvm.Cond.declares ({ cls := "java/lang/Throwable", name := "<init>", desc := "(Ljava/lang/String;)V" } : Jvm.MethodName)) ∈ lw_tbl := lw_at lw_m1 120 rfl
theorem q254 : (Jvm.Cond.lays "java/lang/Throwable" "java/lang/Throwable" "cause" "Ljava/lang/Throwable;") ∈ lw_all := lw_g (lw_at lw_m1 122 rfl) rfl
theorem q255 : (Jvm.Cond.lays "java/lang/Throwable" "java/lang/Throwable" "stackTrace" "[Ljava/lang/StackTraceElement;") ∈ lw_all := lw_g (lw_at lw_m1 123 rfl) rfl
theorem q256 : (Jvm.Cond.lays "java/lang/Throwable" "java/lang/Throwable" "suppressedExceptions" "Ljava/util/List;") ∈ lw_all := lw_g (lw_at lw_m1 124 rfl) rfl
theorem q257 : (Jvm.Cond.lays "java/lang/Throwable" "java/lang/Throwable" "detailMessage" "Ljava/lang/String;") ∈ lw_all := lw_g (lw_at lw_m1 125 rfl) rfl
theorem q258 : (Jvm.Cond.lays "java/lang/Throwable" "java/lang/Throwable" "backtrace" "Ljava/lang/Object;") ∈ lw_all := lw_g (lw_at lw_m1 126 rfl) rfl
theorem q259 : (Jvm.Cond.fieldLink "java/lang/Throwable" (198 : Nat) "java/lang/Throwable" "backtrace" "Ljava/lang/Object;") ∈ lw_all := lw_g (lw_at lw_m1 127 rfl) rfl
theorem q260 : (Jvm.Cond.superclass "java/lang/Throwable" "java/lang/Object") ∈ lw_all := lw_g (lw_at lw_m1 128 rfl) rfl
theorem q261 : (Jvm.Cond.instanceMethod ({ cls := "java/lang/Throwable", name := "<init>", desc := "()V" } : Jvm.MethodName)) ∈ lw_all := lw_g (lw_at lw_m1 129 rfl) rfl
theorem q262 : (Jvm.Cond.code ({ cls := "java/lang/Throwable", name := "<init>", desc := "()V" } : Jvm.MethodName) prog_32_method_1_code (1 : Nat) (Option.none : Option Jvm.ClassFile.FieldType)) ∈ lw_all := lw_g (lw_at lw_m1 130 rfl) rfl
theorem q793 : (Jvm.Cond.instanceMethod ({ cls := "java/lang/Throwable", name := "<init>", desc := "(Ljava/lang/String;Ljava/lang/Throwable;ZZ)V" } : Jvm.MethodName)) ∈ lw_all := lw_g (lw_at lw_m3 181 rfl) rfl
theorem q794 : (Jvm.Cond.code ({ cls := "java/lang/Throwable", name := "<init>", desc := "(Ljava/lang/String;Ljava/lang/Throwable;ZZ)V" } : Jvm.MethodName) prog_32_method_5_code (5 : Nat) (Option.none : Option Jvm.ClassFile.FieldType)) ∈ lw_all := lw_g (lw_at lw_m3 182 rfl) rfl
theorem q2110 : (Jvm.Cond.sameMethod "java/lang/Throwable" "java/lang/Throwable" "fillInStackTrace" "(I)Ljava/lang/Throwable;") ∈ lw_all := lw_g (lw_at lw_m9 58 rfl) rfl
theorem q2130 : (Jvm.Cond.castable "java/lang/Throwable" "java/lang/Object") ∈ lw_tbl := lw_at lw_m9 78 rfl
theorem in_J8 : ∀ w ∈ wsJ80, w ∈ lw_all := lw_in wsJ80 [254, 255, 256, 257, 258] (by decide +kernel) (by decide +kernel)

/-! java/lang/Exception -/
set_option maxRecDepth 100000
def RJ9 : String := "java/lang/Exception"
abbrev cJ9_init : ByteArray := prog_20_method_2_code
def yJ9_init : MethodName := ⟨RJ9, "<init>", "(Ljava/lang/String;)V"⟩
def dkwJ9_init_0 : List UInt8 := [42, 43, 183, 0, 7, 177]
abbrev dktJ9_init_0 : List UInt8 := dkwJ9_init_0 ++ []
theorem dksJ9_init_0 : cJ9_init.data.toList.drop 0 = dktJ9_init_0 := by decide +kernel
theorem dJ9_init_0 : decode cJ9_init 0 = .ok (.aload_n 0, 1) := dk_42 (dk_at dksJ9_init_0 0 rfl rfl)
theorem dJ9_init_1 : decode cJ9_init 1 = .ok (.aload_n 1, 1) := dk_43 (dk_at dksJ9_init_0 1 rfl rfl)
theorem dJ9_init_2 : decode cJ9_init 2 = .ok (.invokespecial 7, 3) := dk_183 0 7 (dk_at dksJ9_init_0 2 rfl rfl)
theorem dJ9_init_5 : decode cJ9_init 5 = .ok (.return_, 1) := dk_177 (dk_at dksJ9_init_0 5 rfl rfl)
abbrev cJ9_init_2 : ByteArray := prog_20_method_1_code
def yJ9_init_2 : MethodName := ⟨RJ9, "<init>", "()V"⟩
theorem dJ9_init_2_0 : decode cJ9_init_2 0 = .ok (.aload_n 0, 1) := by decide +kernel
theorem dJ9_init_2_1 : decode cJ9_init_2 1 = .ok (.invokespecial 1, 3) := by decide +kernel
theorem dJ9_init_2_4 : decode cJ9_init_2 4 = .ok (.return_, 1) := by decide +kernel
abbrev cJ9_init_3 : ByteArray := prog_20_method_5_code
def yJ9_init_3 : MethodName := ⟨RJ9, "<init>", "(Ljava/lang/String;Ljava/lang/Throwable;ZZ)V"⟩
def dkwJ9_init_3_0 : List UInt8 := [42, 43, 44, 29, 21, 4, 183, 0, 16, 177]
abbrev dktJ9_init_3_0 : List UInt8 := dkwJ9_init_3_0 ++ []
theorem dksJ9_init_3_0 : cJ9_init_3.data.toList.drop 0 = dktJ9_init_3_0 := by decide +kernel
theorem dJ9_init_3_0 : decode cJ9_init_3 0 = .ok (.aload_n 0, 1) := dk_42 (dk_at dksJ9_init_3_0 0 rfl rfl)
theorem dJ9_init_3_1 : decode cJ9_init_3 1 = .ok (.aload_n 1, 1) := dk_43 (dk_at dksJ9_init_3_0 1 rfl rfl)
theorem dJ9_init_3_2 : decode cJ9_init_3 2 = .ok (.aload_n 2, 1) := dk_44 (dk_at dksJ9_init_3_0 2 rfl rfl)
theorem dJ9_init_3_3 : decode cJ9_init_3 3 = .ok (.iload_n 3, 1) := dk_29 (dk_at dksJ9_init_3_0 3 rfl rfl)
theorem dJ9_init_3_4 : decode cJ9_init_3 4 = .ok (.iload 4, 2) := dk_21 4 (dk_at dksJ9_init_3_0 4 rfl rfl)
theorem dJ9_init_3_6 : decode cJ9_init_3 6 = .ok (.invokespecial 16, 3) := dk_183 0 16 (dk_at dksJ9_init_3_0 6 rfl rfl)
theorem dJ9_init_3_9 : decode cJ9_init_3 9 = .ok (.return_, 1) := dk_177 (dk_at dksJ9_init_3_0 9 rfl rfl)
theorem q149 : (Jvm.Cond.initialized "java/lang/Exception") ∈ lw_all := lw_g (lw_at lw_m1 17 rfl) rfl
theorem q189 : (Jvm.Cond.instanceMethod ({ cls := "java/lang/Exception", name := "<init>", desc := "(Ljava/lang/String;)V" } : Jvm.MethodName)) ∈ lw_all := lw_g (lw_at lw_m1 57 rfl) rfl
theorem q190 : (Jvm.Cond.code ({ cls := "java/lang/Exception", name := "<init>", desc := "(Ljava/lang/String;)V" } : Jvm.MethodName) prog_20_method_2_code (2 : Nat) (Option.none : Option Jvm.ClassFile.FieldType)) ∈ lw_all := lw_g (lw_at lw_m1 58 rfl) rfl
theorem q191 : (Jvm.Cond.methodLink "java/lang/Exception" (7 : Nat) ({ cls := "java/lang/Throwable", name := "<init>", desc := "(Ljava/lang/String;)V" } : Jvm.MethodName)) ∈ lw_all := lw_g (lw_at lw_m1 59 rfl) rfl
theorem q221 : (Jvm.Cond.superclass "java/lang/Exception" "java/lang/Throwable") ∈ lw_all := lw_g (lw_at lw_m1 89 rfl) rfl
theorem q249 : (Jvm.Cond.declares ({ cls := "java/lang/Exception", name := "<init>", desc := "()V" } : Jvm.MethodName)) ∈ lw_tbl := lw_at lw_m1 117 rfl
theorem q250 : (Jvm.Cond.declares ({ cls := "java/lang/Exception", name := "<init>", desc := "(Ljava/lang/String;)V" } : Jvm.MethodName)) ∈ lw_tbl := lw_at lw_m1 118 rfl
theorem q287 : (Jvm.Cond.instanceMethod ({ cls := "java/lang/Exception", name := "<init>", desc := "()V" } : Jvm.MethodName)) ∈ lw_all := lw_g (lw_at lw_m1 155 rfl) rfl
theorem q288 : (Jvm.Cond.code ({ cls := "java/lang/Exception", name := "<init>", desc := "()V" } : Jvm.MethodName) prog_20_method_1_code (1 : Nat) (Option.none : Option Jvm.ClassFile.FieldType)) ∈ lw_all := lw_g (lw_at lw_m1 156 rfl) rfl
theorem q289 : (Jvm.Cond.methodLink "java/lang/Exception" (1 : Nat) ({ cls := "java/lang/Throwable", name := "<init>", desc := "()V" } : Jvm.MethodName)) ∈ lw_all := lw_g (lw_at lw_m1 157 rfl) rfl
theorem q790 : (Jvm.Cond.instanceMethod ({ cls := "java/lang/Exception", name := "<init>", desc := "(Ljava/lang/String;Ljava/lang/Throwable;ZZ)V" } : Jvm.MethodName)) ∈ lw_all := lw_g (lw_at lw_m3 178 rfl) rfl
theorem q791 : (Jvm.Cond.code ({ cls := "java/lang/Exception", name := "<init>", desc := "(Ljava/lang/String;Ljava/lang/Throwable;ZZ)V" } : Jvm.MethodName) prog_20_method_5_code (5 : Nat) (Option.none : Option Jvm.ClassFile.FieldType)) ∈ lw_all := lw_g (lw_at lw_m3 179 rfl) rfl
theorem q792 : (Jvm.Cond.methodLink "java/lang/Exception" (16 : Nat) ({ cls := "java/lang/Throwable", name := "<init>", desc := "(Ljava/lang/String;Ljava/lang/Throwable;ZZ)V" } : Jvm.MethodName)) ∈ lw_all := lw_g (lw_at lw_m3 180 rfl) rfl

/-! FloodLent$Slot -/
set_option maxRecDepth 100000
def RX1 : String := "FloodLent$Slot"
def TX1 : u_T := fun k => match k with
  | _ => ("FloodLent$Slot", "held", "Ljava/lang/Object;", false)
def tyX1 : Nat → FieldType := fun k => match k with
  | _ => .object "java/lang/Object"
abbrev wsX10 : List Cond := u_ws RX1 TX1 1
theorem nmX1 : ∀ a, a < 1 → ∀ b, b < 1 → a ≠ b → (TX1 a).2.1 ≠ (TX1 b).2.1 := by decide +kernel
theorem tyX1_ok : ∀ k, k < 1 → parseFieldDescriptor (TX1 k).2.2.1 = some (tyX1 k) := by decide +kernel
abbrev cX1_begins : ByteArray := prog_9_method_2_code
def yX1_begins : MethodName := ⟨RX1, "begins", "(II)Z"⟩
def dkwX1_begins_3 : List UInt8 := [181, 0, 9, 167, 0, 10, 42, 28, 188, 11, 181, 0, 9, 167, 0, 6, 78, 3, 172, 4, 172]
abbrev dktX1_begins_3 : List UInt8 := dkwX1_begins_3 ++ []
def dkwX1_begins_2 : List UInt8 := [42, 28, 188, 8, 181, 0, 9, 167, 0, 30, 42, 28, 188, 9, 181, 0, 9, 167, 0, 20, 42, 28, 188, 10]
abbrev dktX1_begins_2 : List UInt8 := dkwX1_begins_2 ++ dktX1_begins_3
def dkwX1_begins_1 : List UInt8 := [170, 0, 0, 0, 0, 0, 57, 0, 0, 0, 0, 0, 0, 0, 2, 0, 0, 0, 27, 0, 0, 0, 37, 0, 0, 0, 47]
abbrev dktX1_begins_1 : List UInt8 := dkwX1_begins_1 ++ dktX1_begins_2
def dkwX1_begins_0 : List UInt8 := [27]
abbrev dktX1_begins_0 : List UInt8 := dkwX1_begins_0 ++ dktX1_begins_1
theorem dksX1_begins_0 : cX1_begins.data.toList.drop 0 = dktX1_begins_0 := by decide +kernel
theorem dksX1_begins_1 : cX1_begins.data.toList.drop 1 = dktX1_begins_1 := dk_seg dksX1_begins_0 1 rfl rfl
theorem dksX1_begins_2 : cX1_begins.data.toList.drop 28 = dktX1_begins_2 := dk_seg dksX1_begins_1 27 rfl rfl
theorem dksX1_begins_3 : cX1_begins.data.toList.drop 52 = dktX1_begins_3 := dk_seg dksX1_begins_2 24 rfl rfl
theorem dX1_begins_0 : decode cX1_begins 0 = .ok (.iload_n 1, 1) := dk_27 (dk_at dksX1_begins_0 0 rfl rfl)
theorem dX1_begins_1 : decode cX1_begins 1 = .ok (.tableswitch 57 0 2 #[27, 37, 47], 27) := by decide +kernel
theorem dX1_begins_28 : decode cX1_begins 28 = .ok (.aload_n 0, 1) := dk_42 (dk_at dksX1_begins_2 0 rfl rfl)
theorem dX1_begins_29 : decode cX1_begins 29 = .ok (.iload_n 2, 1) := dk_28 (dk_at dksX1_begins_2 1 rfl rfl)
theorem dX1_begins_30 : decode cX1_begins 30 = .ok (.newarray .byte, 2) := dk_188_8 (dk_at dksX1_begins_2 2 rfl rfl)
theorem dX1_begins_32 : decode cX1_begins 32 = .ok (.putfield 9, 3) := dk_181 0 9 (dk_at dksX1_begins_2 4 rfl rfl)
theorem dX1_begins_35 : decode cX1_begins 35 = .ok (.goto 30, 3) := dk_167 0 30 (dk_at dksX1_begins_2 7 rfl rfl)
theorem dX1_begins_38 : decode cX1_begins 38 = .ok (.aload_n 0, 1) := dk_42 (dk_at dksX1_begins_2 10 rfl rfl)
theorem dX1_begins_39 : decode cX1_begins 39 = .ok (.iload_n 2, 1) := dk_28 (dk_at dksX1_begins_2 11 rfl rfl)
theorem dX1_begins_40 : decode cX1_begins 40 = .ok (.newarray .short, 2) := dk_188_9 (dk_at dksX1_begins_2 12 rfl rfl)
theorem dX1_begins_42 : decode cX1_begins 42 = .ok (.putfield 9, 3) := dk_181 0 9 (dk_at dksX1_begins_2 14 rfl rfl)
theorem dX1_begins_45 : decode cX1_begins 45 = .ok (.goto 20, 3) := dk_167 0 20 (dk_at dksX1_begins_2 17 rfl rfl)
theorem dX1_begins_48 : decode cX1_begins 48 = .ok (.aload_n 0, 1) := dk_42 (dk_at dksX1_begins_2 20 rfl rfl)
theorem dX1_begins_49 : decode cX1_begins 49 = .ok (.iload_n 2, 1) := dk_28 (dk_at dksX1_begins_2 21 rfl rfl)
theorem dX1_begins_50 : decode cX1_begins 50 = .ok (.newarray .int, 2) := dk_188_10 (dk_at dksX1_begins_2 22 rfl rfl)
theorem dX1_begins_52 : decode cX1_begins 52 = .ok (.putfield 9, 3) := dk_181 0 9 (dk_at dksX1_begins_3 0 rfl rfl)
theorem dX1_begins_55 : decode cX1_begins 55 = .ok (.goto 10, 3) := dk_167 0 10 (dk_at dksX1_begins_3 3 rfl rfl)
theorem dX1_begins_58 : decode cX1_begins 58 = .ok (.aload_n 0, 1) := dk_42 (dk_at dksX1_begins_3 6 rfl rfl)
theorem dX1_begins_59 : decode cX1_begins 59 = .ok (.iload_n 2, 1) := dk_28 (dk_at dksX1_begins_3 7 rfl rfl)
theorem dX1_begins_60 : decode cX1_begins 60 = .ok (.newarray .long, 2) := dk_188_11 (dk_at dksX1_begins_3 8 rfl rfl)
theorem dX1_begins_62 : decode cX1_begins 62 = .ok (.putfield 9, 3) := dk_181 0 9 (dk_at dksX1_begins_3 10 rfl rfl)
theorem dX1_begins_65 : decode cX1_begins 65 = .ok (.goto 6, 3) := dk_167 0 6 (dk_at dksX1_begins_3 13 rfl rfl)
theorem dX1_begins_68 : decode cX1_begins 68 = .ok (.astore_n 3, 1) := dk_78 (dk_at dksX1_begins_3 16 rfl rfl)
theorem dX1_begins_69 : decode cX1_begins 69 = .ok (.iconst 0, 1) := dk_3 (dk_at dksX1_begins_3 17 rfl rfl)
theorem dX1_begins_70 : decode cX1_begins 70 = .ok (.ireturn, 1) := dk_172 (dk_at dksX1_begins_3 18 rfl rfl)
theorem dX1_begins_71 : decode cX1_begins 71 = .ok (.iconst 1, 1) := dk_4 (dk_at dksX1_begins_3 19 rfl rfl)
theorem dX1_begins_72 : decode cX1_begins 72 = .ok (.ireturn, 1) := dk_172 (dk_at dksX1_begins_3 20 rfl rfl)
abbrev cX1_puts : ByteArray := prog_9_method_5_code
def yX1_puts : MethodName := ⟨RX1, "puts", "(IJ)I"⟩
def dkwX1_puts_0 : List UInt8 := [42, 27, 32, 182, 0, 25, 167, 0, 13, 58, 4, 16, 250, 172, 58, 4, 16, 249, 172, 3, 172]
abbrev dktX1_puts_0 : List UInt8 := dkwX1_puts_0 ++ []
theorem dksX1_puts_0 : cX1_puts.data.toList.drop 0 = dktX1_puts_0 := by decide +kernel
theorem dX1_puts_0 : decode cX1_puts 0 = .ok (.aload_n 0, 1) := dk_42 (dk_at dksX1_puts_0 0 rfl rfl)
theorem dX1_puts_1 : decode cX1_puts 1 = .ok (.iload_n 1, 1) := dk_27 (dk_at dksX1_puts_0 1 rfl rfl)
theorem dX1_puts_2 : decode cX1_puts 2 = .ok (.lload_n 2, 1) := dk_32 (dk_at dksX1_puts_0 2 rfl rfl)
theorem dX1_puts_3 : decode cX1_puts 3 = .ok (.invokevirtual 25, 3) := dk_182 0 25 (dk_at dksX1_puts_0 3 rfl rfl)
theorem dX1_puts_6 : decode cX1_puts 6 = .ok (.goto 13, 3) := dk_167 0 13 (dk_at dksX1_puts_0 6 rfl rfl)
theorem dX1_puts_9 : decode cX1_puts 9 = .ok (.astore 4, 2) := dk_58 4 (dk_at dksX1_puts_0 9 rfl rfl)
theorem dX1_puts_11 : decode cX1_puts 11 = .ok (.bipush (-6), 2) := dk_16 250 (dk_at dksX1_puts_0 11 rfl rfl)
theorem dX1_puts_13 : decode cX1_puts 13 = .ok (.ireturn, 1) := dk_172 (dk_at dksX1_puts_0 13 rfl rfl)
theorem dX1_puts_14 : decode cX1_puts 14 = .ok (.astore 4, 2) := dk_58 4 (dk_at dksX1_puts_0 14 rfl rfl)
theorem dX1_puts_16 : decode cX1_puts 16 = .ok (.bipush (-7), 2) := dk_16 249 (dk_at dksX1_puts_0 16 rfl rfl)
theorem dX1_puts_18 : decode cX1_puts 18 = .ok (.ireturn, 1) := dk_172 (dk_at dksX1_puts_0 18 rfl rfl)
theorem dX1_puts_19 : decode cX1_puts 19 = .ok (.iconst 0, 1) := dk_3 (dk_at dksX1_puts_0 19 rfl rfl)
theorem dX1_puts_20 : decode cX1_puts 20 = .ok (.ireturn, 1) := dk_172 (dk_at dksX1_puts_0 20 rfl rfl)
abbrev cX1_put : ByteArray := prog_9_method_6_code
def yX1_put : MethodName := ⟨RX1, "put", "(IJ)V"⟩
def dkwX1_put_2 : List UInt8 := [25, 4, 27, 32, 136, 147, 86, 167, 0, 9, 42, 27, 32, 182, 0, 33, 177]
abbrev dktX1_put_2 : List UInt8 := dkwX1_put_2 ++ []
def dkwX1_put_1 : List UInt8 := [145, 84, 167, 0, 38, 42, 180, 0, 9, 193, 0, 19, 153, 0, 22, 42, 180, 0, 9, 192, 0, 19, 58, 4]
abbrev dktX1_put_1 : List UInt8 := dkwX1_put_1 ++ dktX1_put_2
def dkwX1_put_0 : List UInt8 := [42, 180, 0, 9, 193, 0, 17, 153, 0, 22, 42, 180, 0, 9, 192, 0, 17, 58, 4, 25, 4, 27, 32, 136]
abbrev dktX1_put_0 : List UInt8 := dkwX1_put_0 ++ dktX1_put_1
theorem dksX1_put_0 : cX1_put.data.toList.drop 0 = dktX1_put_0 := by decide +kernel
theorem dksX1_put_1 : cX1_put.data.toList.drop 24 = dktX1_put_1 := dk_seg dksX1_put_0 24 rfl rfl
theorem dksX1_put_2 : cX1_put.data.toList.drop 48 = dktX1_put_2 := dk_seg dksX1_put_1 24 rfl rfl
theorem dX1_put_0 : decode cX1_put 0 = .ok (.aload_n 0, 1) := dk_42 (dk_at dksX1_put_0 0 rfl rfl)
theorem dX1_put_1 : decode cX1_put 1 = .ok (.getfield 9, 3) := dk_180 0 9 (dk_at dksX1_put_0 1 rfl rfl)
theorem dX1_put_4 : decode cX1_put 4 = .ok (.instanceof 17, 3) := dk_193 0 17 (dk_at dksX1_put_0 4 rfl rfl)
theorem dX1_put_7 : decode cX1_put 7 = .ok (.ifCond .eq 22, 3) := dk_153 0 22 (dk_at dksX1_put_0 7 rfl rfl)
theorem dX1_put_10 : decode cX1_put 10 = .ok (.aload_n 0, 1) := dk_42 (dk_at dksX1_put_0 10 rfl rfl)
theorem dX1_put_11 : decode cX1_put 11 = .ok (.getfield 9, 3) := dk_180 0 9 (dk_at dksX1_put_0 11 rfl rfl)
theorem dX1_put_14 : decode cX1_put 14 = .ok (.checkcast 17, 3) := dk_192 0 17 (dk_at dksX1_put_0 14 rfl rfl)
theorem dX1_put_17 : decode cX1_put 17 = .ok (.astore 4, 2) := dk_58 4 (dk_at dksX1_put_0 17 rfl rfl)
theorem dX1_put_19 : decode cX1_put 19 = .ok (.aload 4, 2) := dk_25 4 (dk_at dksX1_put_0 19 rfl rfl)
theorem dX1_put_21 : decode cX1_put 21 = .ok (.iload_n 1, 1) := dk_27 (dk_at dksX1_put_0 21 rfl rfl)
theorem dX1_put_22 : decode cX1_put 22 = .ok (.lload_n 2, 1) := dk_32 (dk_at dksX1_put_0 22 rfl rfl)
theorem dX1_put_23 : decode cX1_put 23 = .ok (.l2i, 1) := dk_136 (dk_at dksX1_put_0 23 rfl rfl)
theorem dX1_put_24 : decode cX1_put 24 = .ok (.i2b, 1) := dk_145 (dk_at dksX1_put_1 0 rfl rfl)
theorem dX1_put_25 : decode cX1_put 25 = .ok (.bastore, 1) := dk_84 (dk_at dksX1_put_1 1 rfl rfl)
theorem dX1_put_26 : decode cX1_put 26 = .ok (.goto 38, 3) := dk_167 0 38 (dk_at dksX1_put_1 2 rfl rfl)
theorem dX1_put_29 : decode cX1_put 29 = .ok (.aload_n 0, 1) := dk_42 (dk_at dksX1_put_1 5 rfl rfl)
theorem dX1_put_30 : decode cX1_put 30 = .ok (.getfield 9, 3) := dk_180 0 9 (dk_at dksX1_put_1 6 rfl rfl)
theorem dX1_put_33 : decode cX1_put 33 = .ok (.instanceof 19, 3) := dk_193 0 19 (dk_at dksX1_put_1 9 rfl rfl)
theorem dX1_put_36 : decode cX1_put 36 = .ok (.ifCond .eq 22, 3) := dk_153 0 22 (dk_at dksX1_put_1 12 rfl rfl)
theorem dX1_put_39 : decode cX1_put 39 = .ok (.aload_n 0, 1) := dk_42 (dk_at dksX1_put_1 15 rfl rfl)
theorem dX1_put_40 : decode cX1_put 40 = .ok (.getfield 9, 3) := dk_180 0 9 (dk_at dksX1_put_1 16 rfl rfl)
theorem dX1_put_43 : decode cX1_put 43 = .ok (.checkcast 19, 3) := dk_192 0 19 (dk_at dksX1_put_1 19 rfl rfl)
theorem dX1_put_46 : decode cX1_put 46 = .ok (.astore 4, 2) := dk_58 4 (dk_at dksX1_put_1 22 rfl rfl)
theorem dX1_put_48 : decode cX1_put 48 = .ok (.aload 4, 2) := dk_25 4 (dk_at dksX1_put_2 0 rfl rfl)
theorem dX1_put_50 : decode cX1_put 50 = .ok (.iload_n 1, 1) := dk_27 (dk_at dksX1_put_2 2 rfl rfl)
theorem dX1_put_51 : decode cX1_put 51 = .ok (.lload_n 2, 1) := dk_32 (dk_at dksX1_put_2 3 rfl rfl)
theorem dX1_put_52 : decode cX1_put 52 = .ok (.l2i, 1) := dk_136 (dk_at dksX1_put_2 4 rfl rfl)
theorem dX1_put_53 : decode cX1_put 53 = .ok (.i2s, 1) := dk_147 (dk_at dksX1_put_2 5 rfl rfl)
theorem dX1_put_54 : decode cX1_put 54 = .ok (.sastore, 1) := dk_86 (dk_at dksX1_put_2 6 rfl rfl)
theorem dX1_put_55 : decode cX1_put 55 = .ok (.goto 9, 3) := dk_167 0 9 (dk_at dksX1_put_2 7 rfl rfl)
theorem dX1_put_58 : decode cX1_put 58 = .ok (.aload_n 0, 1) := dk_42 (dk_at dksX1_put_2 10 rfl rfl)
theorem dX1_put_59 : decode cX1_put 59 = .ok (.iload_n 1, 1) := dk_27 (dk_at dksX1_put_2 11 rfl rfl)
theorem dX1_put_60 : decode cX1_put 60 = .ok (.lload_n 2, 1) := dk_32 (dk_at dksX1_put_2 12 rfl rfl)
theorem dX1_put_61 : decode cX1_put 61 = .ok (.invokevirtual 33, 3) := dk_182 0 33 (dk_at dksX1_put_2 13 rfl rfl)
theorem dX1_put_64 : decode cX1_put 64 = .ok (.return_, 1) := dk_177 (dk_at dksX1_put_2 16 rfl rfl)
abbrev cX1_putWider : ByteArray := prog_9_method_7_code
def yX1_putWider : MethodName := ⟨RX1, "putWider", "(IJ)V"⟩
def dkwX1_putWider_1 : List UInt8 := [192, 0, 23, 58, 5, 25, 5, 27, 32, 80, 177]
abbrev dktX1_putWider_1 : List UInt8 := dkwX1_putWider_1 ++ []
def dkwX1_putWider_0 : List UInt8 := [42, 180, 0, 9, 192, 0, 21, 58, 4, 25, 4, 27, 32, 136, 79, 167, 0, 19, 58, 4, 42, 180, 0, 9]
abbrev dktX1_putWider_0 : List UInt8 := dkwX1_putWider_0 ++ dktX1_putWider_1
theorem dksX1_putWider_0 : cX1_putWider.data.toList.drop 0 = dktX1_putWider_0 := by decide +kernel
theorem dksX1_putWider_1 : cX1_putWider.data.toList.drop 24 = dktX1_putWider_1 := dk_seg dksX1_putWider_0 24 rfl rfl
theorem dX1_putWider_0 : decode cX1_putWider 0 = .ok (.aload_n 0, 1) := dk_42 (dk_at dksX1_putWider_0 0 rfl rfl)
theorem dX1_putWider_1 : decode cX1_putWider 1 = .ok (.getfield 9, 3) := dk_180 0 9 (dk_at dksX1_putWider_0 1 rfl rfl)
theorem dX1_putWider_4 : decode cX1_putWider 4 = .ok (.checkcast 21, 3) := dk_192 0 21 (dk_at dksX1_putWider_0 4 rfl rfl)
theorem dX1_putWider_7 : decode cX1_putWider 7 = .ok (.astore 4, 2) := dk_58 4 (dk_at dksX1_putWider_0 7 rfl rfl)
theorem dX1_putWider_9 : decode cX1_putWider 9 = .ok (.aload 4, 2) := dk_25 4 (dk_at dksX1_putWider_0 9 rfl rfl)
theorem dX1_putWider_11 : decode cX1_putWider 11 = .ok (.iload_n 1, 1) := dk_27 (dk_at dksX1_putWider_0 11 rfl rfl)
theorem dX1_putWider_12 : decode cX1_putWider 12 = .ok (.lload_n 2, 1) := dk_32 (dk_at dksX1_putWider_0 12 rfl rfl)
theorem dX1_putWider_13 : decode cX1_putWider 13 = .ok (.l2i, 1) := dk_136 (dk_at dksX1_putWider_0 13 rfl rfl)
theorem dX1_putWider_14 : decode cX1_putWider 14 = .ok (.iastore, 1) := dk_79 (dk_at dksX1_putWider_0 14 rfl rfl)
theorem dX1_putWider_15 : decode cX1_putWider 15 = .ok (.goto 19, 3) := dk_167 0 19 (dk_at dksX1_putWider_0 15 rfl rfl)
theorem dX1_putWider_18 : decode cX1_putWider 18 = .ok (.astore 4, 2) := dk_58 4 (dk_at dksX1_putWider_0 18 rfl rfl)
theorem dX1_putWider_20 : decode cX1_putWider 20 = .ok (.aload_n 0, 1) := dk_42 (dk_at dksX1_putWider_0 20 rfl rfl)
theorem dX1_putWider_21 : decode cX1_putWider 21 = .ok (.getfield 9, 3) := dk_180 0 9 (dk_at dksX1_putWider_0 21 rfl rfl)
theorem dX1_putWider_24 : decode cX1_putWider 24 = .ok (.checkcast 23, 3) := dk_192 0 23 (dk_at dksX1_putWider_1 0 rfl rfl)
theorem dX1_putWider_27 : decode cX1_putWider 27 = .ok (.astore 5, 2) := dk_58 5 (dk_at dksX1_putWider_1 3 rfl rfl)
theorem dX1_putWider_29 : decode cX1_putWider 29 = .ok (.aload 5, 2) := dk_25 5 (dk_at dksX1_putWider_1 5 rfl rfl)
theorem dX1_putWider_31 : decode cX1_putWider 31 = .ok (.iload_n 1, 1) := dk_27 (dk_at dksX1_putWider_1 7 rfl rfl)
theorem dX1_putWider_32 : decode cX1_putWider 32 = .ok (.lload_n 2, 1) := dk_32 (dk_at dksX1_putWider_1 8 rfl rfl)
theorem dX1_putWider_33 : decode cX1_putWider 33 = .ok (.lastore, 1) := dk_80 (dk_at dksX1_putWider_1 9 rfl rfl)
theorem dX1_putWider_34 : decode cX1_putWider 34 = .ok (.return_, 1) := dk_177 (dk_at dksX1_putWider_1 10 rfl rfl)
abbrev cX1_pastes : ByteArray := prog_9_method_9_code
def yX1_pastes : MethodName := ⟨RX1, "pastes", "(ILFloodLent$Slot;II)I"⟩
def dkwX1_pastes_2 : List UInt8 := [167, 0, 8, 58, 5, 16, 249, 172, 3, 172]
abbrev dktX1_pastes_2 : List UInt8 := dkwX1_pastes_2 ++ []
def dkwX1_pastes_1 : List UInt8 := [182, 0, 38, 159, 0, 6, 16, 248, 172, 42, 180, 0, 9, 27, 44, 180, 0, 9, 29, 21, 4, 184, 0, 42]
abbrev dktX1_pastes_1 : List UInt8 := dkwX1_pastes_1 ++ dktX1_pastes_2
def dkwX1_pastes_0 : List UInt8 := [42, 180, 0, 9, 198, 0, 10, 44, 180, 0, 9, 199, 0, 6, 16, 250, 172, 42, 182, 0, 38, 44]
abbrev dktX1_pastes_0 : List UInt8 := dkwX1_pastes_0 ++ dktX1_pastes_1
theorem dksX1_pastes_0 : cX1_pastes.data.toList.drop 0 = dktX1_pastes_0 := by decide +kernel
theorem dksX1_pastes_1 : cX1_pastes.data.toList.drop 22 = dktX1_pastes_1 := dk_seg dksX1_pastes_0 22 rfl rfl
theorem dksX1_pastes_2 : cX1_pastes.data.toList.drop 46 = dktX1_pastes_2 := dk_seg dksX1_pastes_1 24 rfl rfl
theorem dX1_pastes_0 : decode cX1_pastes 0 = .ok (.aload_n 0, 1) := dk_42 (dk_at dksX1_pastes_0 0 rfl rfl)
theorem dX1_pastes_1 : decode cX1_pastes 1 = .ok (.getfield 9, 3) := dk_180 0 9 (dk_at dksX1_pastes_0 1 rfl rfl)
theorem dX1_pastes_4 : decode cX1_pastes 4 = .ok (.ifnull 10, 3) := dk_198 0 10 (dk_at dksX1_pastes_0 4 rfl rfl)
theorem dX1_pastes_7 : decode cX1_pastes 7 = .ok (.aload_n 2, 1) := dk_44 (dk_at dksX1_pastes_0 7 rfl rfl)
theorem dX1_pastes_8 : decode cX1_pastes 8 = .ok (.getfield 9, 3) := dk_180 0 9 (dk_at dksX1_pastes_0 8 rfl rfl)
theorem dX1_pastes_11 : decode cX1_pastes 11 = .ok (.ifnonnull 6, 3) := dk_199 0 6 (dk_at dksX1_pastes_0 11 rfl rfl)
theorem dX1_pastes_14 : decode cX1_pastes 14 = .ok (.bipush (-6), 2) := dk_16 250 (dk_at dksX1_pastes_0 14 rfl rfl)
theorem dX1_pastes_16 : decode cX1_pastes 16 = .ok (.ireturn, 1) := dk_172 (dk_at dksX1_pastes_0 16 rfl rfl)
theorem dX1_pastes_17 : decode cX1_pastes 17 = .ok (.aload_n 0, 1) := dk_42 (dk_at dksX1_pastes_0 17 rfl rfl)
theorem dX1_pastes_18 : decode cX1_pastes 18 = .ok (.invokevirtual 38, 3) := dk_182 0 38 (dk_at dksX1_pastes_0 18 rfl rfl)
theorem dX1_pastes_21 : decode cX1_pastes 21 = .ok (.aload_n 2, 1) := dk_44 (dk_at dksX1_pastes_0 21 rfl rfl)
theorem dX1_pastes_22 : decode cX1_pastes 22 = .ok (.invokevirtual 38, 3) := dk_182 0 38 (dk_at dksX1_pastes_1 0 rfl rfl)
theorem dX1_pastes_25 : decode cX1_pastes 25 = .ok (.if_icmp .eq 6, 3) := dk_159 0 6 (dk_at dksX1_pastes_1 3 rfl rfl)
theorem dX1_pastes_28 : decode cX1_pastes 28 = .ok (.bipush (-8), 2) := dk_16 248 (dk_at dksX1_pastes_1 6 rfl rfl)
theorem dX1_pastes_30 : decode cX1_pastes 30 = .ok (.ireturn, 1) := dk_172 (dk_at dksX1_pastes_1 8 rfl rfl)
theorem dX1_pastes_31 : decode cX1_pastes 31 = .ok (.aload_n 0, 1) := dk_42 (dk_at dksX1_pastes_1 9 rfl rfl)
theorem dX1_pastes_32 : decode cX1_pastes 32 = .ok (.getfield 9, 3) := dk_180 0 9 (dk_at dksX1_pastes_1 10 rfl rfl)
theorem dX1_pastes_35 : decode cX1_pastes 35 = .ok (.iload_n 1, 1) := dk_27 (dk_at dksX1_pastes_1 13 rfl rfl)
theorem dX1_pastes_36 : decode cX1_pastes 36 = .ok (.aload_n 2, 1) := dk_44 (dk_at dksX1_pastes_1 14 rfl rfl)
theorem dX1_pastes_37 : decode cX1_pastes 37 = .ok (.getfield 9, 3) := dk_180 0 9 (dk_at dksX1_pastes_1 15 rfl rfl)
theorem dX1_pastes_40 : decode cX1_pastes 40 = .ok (.iload_n 3, 1) := dk_29 (dk_at dksX1_pastes_1 18 rfl rfl)
theorem dX1_pastes_41 : decode cX1_pastes 41 = .ok (.iload 4, 2) := dk_21 4 (dk_at dksX1_pastes_1 19 rfl rfl)
theorem dX1_pastes_43 : decode cX1_pastes 43 = .ok (.invokestatic 42, 3) := dk_184 0 42 (dk_at dksX1_pastes_1 21 rfl rfl)
theorem dX1_pastes_46 : decode cX1_pastes 46 = .ok (.goto 8, 3) := dk_167 0 8 (dk_at dksX1_pastes_2 0 rfl rfl)
theorem dX1_pastes_49 : decode cX1_pastes 49 = .ok (.astore 5, 2) := dk_58 5 (dk_at dksX1_pastes_2 3 rfl rfl)
theorem dX1_pastes_51 : decode cX1_pastes 51 = .ok (.bipush (-7), 2) := dk_16 249 (dk_at dksX1_pastes_2 5 rfl rfl)
theorem dX1_pastes_53 : decode cX1_pastes 53 = .ok (.ireturn, 1) := dk_172 (dk_at dksX1_pastes_2 7 rfl rfl)
theorem dX1_pastes_54 : decode cX1_pastes 54 = .ok (.iconst 0, 1) := dk_3 (dk_at dksX1_pastes_2 8 rfl rfl)
theorem dX1_pastes_55 : decode cX1_pastes 55 = .ok (.ireturn, 1) := dk_172 (dk_at dksX1_pastes_2 9 rfl rfl)
abbrev cX1_width : ByteArray := prog_9_method_8_code
def yX1_width : MethodName := ⟨RX1, "width", "()I"⟩
def dkwX1_width_1 : List UInt8 := [4, 167, 0, 18, 42, 180, 0, 9, 193, 0, 21, 153, 0, 7, 5, 167, 0, 4, 6, 172]
abbrev dktX1_width_1 : List UInt8 := dkwX1_width_1 ++ []
def dkwX1_width_0 : List UInt8 := [42, 180, 0, 9, 193, 0, 17, 153, 0, 7, 3, 167, 0, 32, 42, 180, 0, 9, 193, 0, 19, 153, 0, 7]
abbrev dktX1_width_0 : List UInt8 := dkwX1_width_0 ++ dktX1_width_1
theorem dksX1_width_0 : cX1_width.data.toList.drop 0 = dktX1_width_0 := by decide +kernel
theorem dksX1_width_1 : cX1_width.data.toList.drop 24 = dktX1_width_1 := dk_seg dksX1_width_0 24 rfl rfl
theorem dX1_width_0 : decode cX1_width 0 = .ok (.aload_n 0, 1) := dk_42 (dk_at dksX1_width_0 0 rfl rfl)
theorem dX1_width_1 : decode cX1_width 1 = .ok (.getfield 9, 3) := dk_180 0 9 (dk_at dksX1_width_0 1 rfl rfl)
theorem dX1_width_4 : decode cX1_width 4 = .ok (.instanceof 17, 3) := dk_193 0 17 (dk_at dksX1_width_0 4 rfl rfl)
theorem dX1_width_7 : decode cX1_width 7 = .ok (.ifCond .eq 7, 3) := dk_153 0 7 (dk_at dksX1_width_0 7 rfl rfl)
theorem dX1_width_10 : decode cX1_width 10 = .ok (.iconst 0, 1) := dk_3 (dk_at dksX1_width_0 10 rfl rfl)
theorem dX1_width_11 : decode cX1_width 11 = .ok (.goto 32, 3) := dk_167 0 32 (dk_at dksX1_width_0 11 rfl rfl)
theorem dX1_width_14 : decode cX1_width 14 = .ok (.aload_n 0, 1) := dk_42 (dk_at dksX1_width_0 14 rfl rfl)
theorem dX1_width_15 : decode cX1_width 15 = .ok (.getfield 9, 3) := dk_180 0 9 (dk_at dksX1_width_0 15 rfl rfl)
theorem dX1_width_18 : decode cX1_width 18 = .ok (.instanceof 19, 3) := dk_193 0 19 (dk_at dksX1_width_0 18 rfl rfl)
theorem dX1_width_21 : decode cX1_width 21 = .ok (.ifCond .eq 7, 3) := dk_153 0 7 (dk_at dksX1_width_0 21 rfl rfl)
theorem dX1_width_24 : decode cX1_width 24 = .ok (.iconst 1, 1) := dk_4 (dk_at dksX1_width_1 0 rfl rfl)
theorem dX1_width_25 : decode cX1_width 25 = .ok (.goto 18, 3) := dk_167 0 18 (dk_at dksX1_width_1 1 rfl rfl)
theorem dX1_width_28 : decode cX1_width 28 = .ok (.aload_n 0, 1) := dk_42 (dk_at dksX1_width_1 4 rfl rfl)
theorem dX1_width_29 : decode cX1_width 29 = .ok (.getfield 9, 3) := dk_180 0 9 (dk_at dksX1_width_1 5 rfl rfl)
theorem dX1_width_32 : decode cX1_width 32 = .ok (.instanceof 21, 3) := dk_193 0 21 (dk_at dksX1_width_1 8 rfl rfl)
theorem dX1_width_35 : decode cX1_width 35 = .ok (.ifCond .eq 7, 3) := dk_153 0 7 (dk_at dksX1_width_1 11 rfl rfl)
theorem dX1_width_38 : decode cX1_width 38 = .ok (.iconst 2, 1) := dk_5 (dk_at dksX1_width_1 14 rfl rfl)
theorem dX1_width_39 : decode cX1_width 39 = .ok (.goto 4, 3) := dk_167 0 4 (dk_at dksX1_width_1 15 rfl rfl)
theorem dX1_width_42 : decode cX1_width 42 = .ok (.iconst 3, 1) := dk_6 (dk_at dksX1_width_1 18 rfl rfl)
theorem dX1_width_43 : decode cX1_width 43 = .ok (.ireturn, 1) := dk_172 (dk_at dksX1_width_1 19 rfl rfl)
abbrev cX1_init : ByteArray := prog_9_method_1_code
def yX1_init : MethodName := ⟨RX1, "<init>", "()V"⟩
theorem dX1_init_0 : decode cX1_init 0 = .ok (.aload_n 0, 1) := by decide +kernel
theorem dX1_init_1 : decode cX1_init 1 = .ok (.invokespecial 3, 3) := by decide +kernel
theorem dX1_init_4 : decode cX1_init 4 = .ok (.return_, 1) := by decide +kernel
abbrev cX1_many : ByteArray := prog_9_method_3_code
def yX1_many : MethodName := ⟨RX1, "many", "()I"⟩
def dkwX1_many_2 : List UInt8 := [153, 0, 14, 42, 180, 0, 9, 192, 0, 21, 190, 167, 0, 11, 42, 180, 0, 9, 192, 0, 23, 190, 172]
abbrev dktX1_many_2 : List UInt8 := dkwX1_many_2 ++ []
def dkwX1_many_1 : List UInt8 := [193, 0, 19, 153, 0, 12, 42, 180, 0, 9, 192, 0, 19, 190, 172, 42, 180, 0, 9, 193, 0, 21]
abbrev dktX1_many_1 : List UInt8 := dkwX1_many_1 ++ dktX1_many_2
def dkwX1_many_0 : List UInt8 := [42, 180, 0, 9, 193, 0, 17, 153, 0, 12, 42, 180, 0, 9, 192, 0, 17, 190, 172, 42, 180, 0, 9]
abbrev dktX1_many_0 : List UInt8 := dkwX1_many_0 ++ dktX1_many_1
theorem dksX1_many_0 : cX1_many.data.toList.drop 0 = dktX1_many_0 := by decide +kernel
theorem dksX1_many_1 : cX1_many.data.toList.drop 23 = dktX1_many_1 := dk_seg dksX1_many_0 23 rfl rfl
theorem dksX1_many_2 : cX1_many.data.toList.drop 45 = dktX1_many_2 := dk_seg dksX1_many_1 22 rfl rfl
theorem dX1_many_0 : decode cX1_many 0 = .ok (.aload_n 0, 1) := dk_42 (dk_at dksX1_many_0 0 rfl rfl)
theorem dX1_many_1 : decode cX1_many 1 = .ok (.getfield 9, 3) := dk_180 0 9 (dk_at dksX1_many_0 1 rfl rfl)
theorem dX1_many_4 : decode cX1_many 4 = .ok (.instanceof 17, 3) := dk_193 0 17 (dk_at dksX1_many_0 4 rfl rfl)
theorem dX1_many_7 : decode cX1_many 7 = .ok (.ifCond .eq 12, 3) := dk_153 0 12 (dk_at dksX1_many_0 7 rfl rfl)
theorem dX1_many_10 : decode cX1_many 10 = .ok (.aload_n 0, 1) := dk_42 (dk_at dksX1_many_0 10 rfl rfl)
theorem dX1_many_11 : decode cX1_many 11 = .ok (.getfield 9, 3) := dk_180 0 9 (dk_at dksX1_many_0 11 rfl rfl)
theorem dX1_many_14 : decode cX1_many 14 = .ok (.checkcast 17, 3) := dk_192 0 17 (dk_at dksX1_many_0 14 rfl rfl)
theorem dX1_many_17 : decode cX1_many 17 = .ok (.arraylength, 1) := dk_190 (dk_at dksX1_many_0 17 rfl rfl)
theorem dX1_many_18 : decode cX1_many 18 = .ok (.ireturn, 1) := dk_172 (dk_at dksX1_many_0 18 rfl rfl)
theorem dX1_many_19 : decode cX1_many 19 = .ok (.aload_n 0, 1) := dk_42 (dk_at dksX1_many_0 19 rfl rfl)
theorem dX1_many_20 : decode cX1_many 20 = .ok (.getfield 9, 3) := dk_180 0 9 (dk_at dksX1_many_0 20 rfl rfl)
theorem dX1_many_23 : decode cX1_many 23 = .ok (.instanceof 19, 3) := dk_193 0 19 (dk_at dksX1_many_1 0 rfl rfl)
theorem dX1_many_26 : decode cX1_many 26 = .ok (.ifCond .eq 12, 3) := dk_153 0 12 (dk_at dksX1_many_1 3 rfl rfl)
theorem dX1_many_29 : decode cX1_many 29 = .ok (.aload_n 0, 1) := dk_42 (dk_at dksX1_many_1 6 rfl rfl)
theorem dX1_many_30 : decode cX1_many 30 = .ok (.getfield 9, 3) := dk_180 0 9 (dk_at dksX1_many_1 7 rfl rfl)
theorem dX1_many_33 : decode cX1_many 33 = .ok (.checkcast 19, 3) := dk_192 0 19 (dk_at dksX1_many_1 10 rfl rfl)
theorem dX1_many_36 : decode cX1_many 36 = .ok (.arraylength, 1) := dk_190 (dk_at dksX1_many_1 13 rfl rfl)
theorem dX1_many_37 : decode cX1_many 37 = .ok (.ireturn, 1) := dk_172 (dk_at dksX1_many_1 14 rfl rfl)
theorem dX1_many_38 : decode cX1_many 38 = .ok (.aload_n 0, 1) := dk_42 (dk_at dksX1_many_1 15 rfl rfl)
theorem dX1_many_39 : decode cX1_many 39 = .ok (.getfield 9, 3) := dk_180 0 9 (dk_at dksX1_many_1 16 rfl rfl)
theorem dX1_many_42 : decode cX1_many 42 = .ok (.instanceof 21, 3) := dk_193 0 21 (dk_at dksX1_many_1 19 rfl rfl)
theorem dX1_many_45 : decode cX1_many 45 = .ok (.ifCond .eq 14, 3) := dk_153 0 14 (dk_at dksX1_many_2 0 rfl rfl)
theorem dX1_many_48 : decode cX1_many 48 = .ok (.aload_n 0, 1) := dk_42 (dk_at dksX1_many_2 3 rfl rfl)
theorem dX1_many_49 : decode cX1_many 49 = .ok (.getfield 9, 3) := dk_180 0 9 (dk_at dksX1_many_2 4 rfl rfl)
theorem dX1_many_52 : decode cX1_many 52 = .ok (.checkcast 21, 3) := dk_192 0 21 (dk_at dksX1_many_2 7 rfl rfl)
theorem dX1_many_55 : decode cX1_many 55 = .ok (.arraylength, 1) := dk_190 (dk_at dksX1_many_2 10 rfl rfl)
theorem dX1_many_56 : decode cX1_many 56 = .ok (.goto 11, 3) := dk_167 0 11 (dk_at dksX1_many_2 11 rfl rfl)
theorem dX1_many_59 : decode cX1_many 59 = .ok (.aload_n 0, 1) := dk_42 (dk_at dksX1_many_2 14 rfl rfl)
theorem dX1_many_60 : decode cX1_many 60 = .ok (.getfield 9, 3) := dk_180 0 9 (dk_at dksX1_many_2 15 rfl rfl)
theorem dX1_many_63 : decode cX1_many 63 = .ok (.checkcast 23, 3) := dk_192 0 23 (dk_at dksX1_many_2 18 rfl rfl)
theorem dX1_many_66 : decode cX1_many 66 = .ok (.arraylength, 1) := dk_190 (dk_at dksX1_many_2 21 rfl rfl)
theorem dX1_many_67 : decode cX1_many 67 = .ok (.ireturn, 1) := dk_172 (dk_at dksX1_many_2 22 rfl rfl)
abbrev cX1_number : ByteArray := prog_9_method_4_code
def yX1_number : MethodName := ⟨RX1, "number", "(I)J"⟩
def dkwX1_number_3 : List UInt8 := [192, 0, 23, 27, 47, 173]
abbrev dktX1_number_3 : List UInt8 := dkwX1_number_3 ++ []
def dkwX1_number_2 : List UInt8 := [193, 0, 21, 153, 0, 16, 42, 180, 0, 9, 192, 0, 21, 27, 46, 133, 167, 0, 12, 42, 180, 0, 9]
abbrev dktX1_number_2 : List UInt8 := dkwX1_number_2 ++ dktX1_number_3
def dkwX1_number_1 : List UInt8 := [180, 0, 9, 193, 0, 19, 153, 0, 14, 42, 180, 0, 9, 192, 0, 19, 27, 53, 133, 173, 42, 180, 0, 9]
abbrev dktX1_number_1 : List UInt8 := dkwX1_number_1 ++ dktX1_number_2
def dkwX1_number_0 : List UInt8 := [42, 180, 0, 9, 193, 0, 17, 153, 0, 14, 42, 180, 0, 9, 192, 0, 17, 27, 51, 133, 173, 42]
abbrev dktX1_number_0 : List UInt8 := dkwX1_number_0 ++ dktX1_number_1
theorem dksX1_number_0 : cX1_number.data.toList.drop 0 = dktX1_number_0 := by decide +kernel
theorem dksX1_number_1 : cX1_number.data.toList.drop 22 = dktX1_number_1 := dk_seg dksX1_number_0 22 rfl rfl
theorem dksX1_number_2 : cX1_number.data.toList.drop 46 = dktX1_number_2 := dk_seg dksX1_number_1 24 rfl rfl
theorem dksX1_number_3 : cX1_number.data.toList.drop 69 = dktX1_number_3 := dk_seg dksX1_number_2 23 rfl rfl
theorem dX1_number_0 : decode cX1_number 0 = .ok (.aload_n 0, 1) := dk_42 (dk_at dksX1_number_0 0 rfl rfl)
theorem dX1_number_1 : decode cX1_number 1 = .ok (.getfield 9, 3) := dk_180 0 9 (dk_at dksX1_number_0 1 rfl rfl)
theorem dX1_number_4 : decode cX1_number 4 = .ok (.instanceof 17, 3) := dk_193 0 17 (dk_at dksX1_number_0 4 rfl rfl)
theorem dX1_number_7 : decode cX1_number 7 = .ok (.ifCond .eq 14, 3) := dk_153 0 14 (dk_at dksX1_number_0 7 rfl rfl)
theorem dX1_number_10 : decode cX1_number 10 = .ok (.aload_n 0, 1) := dk_42 (dk_at dksX1_number_0 10 rfl rfl)
theorem dX1_number_11 : decode cX1_number 11 = .ok (.getfield 9, 3) := dk_180 0 9 (dk_at dksX1_number_0 11 rfl rfl)
theorem dX1_number_14 : decode cX1_number 14 = .ok (.checkcast 17, 3) := dk_192 0 17 (dk_at dksX1_number_0 14 rfl rfl)
theorem dX1_number_17 : decode cX1_number 17 = .ok (.iload_n 1, 1) := dk_27 (dk_at dksX1_number_0 17 rfl rfl)
theorem dX1_number_18 : decode cX1_number 18 = .ok (.baload, 1) := dk_51 (dk_at dksX1_number_0 18 rfl rfl)
theorem dX1_number_19 : decode cX1_number 19 = .ok (.i2l, 1) := dk_133 (dk_at dksX1_number_0 19 rfl rfl)
theorem dX1_number_20 : decode cX1_number 20 = .ok (.lreturn, 1) := dk_173 (dk_at dksX1_number_0 20 rfl rfl)
theorem dX1_number_21 : decode cX1_number 21 = .ok (.aload_n 0, 1) := dk_42 (dk_at dksX1_number_0 21 rfl rfl)
theorem dX1_number_22 : decode cX1_number 22 = .ok (.getfield 9, 3) := dk_180 0 9 (dk_at dksX1_number_1 0 rfl rfl)
theorem dX1_number_25 : decode cX1_number 25 = .ok (.instanceof 19, 3) := dk_193 0 19 (dk_at dksX1_number_1 3 rfl rfl)
theorem dX1_number_28 : decode cX1_number 28 = .ok (.ifCond .eq 14, 3) := dk_153 0 14 (dk_at dksX1_number_1 6 rfl rfl)
theorem dX1_number_31 : decode cX1_number 31 = .ok (.aload_n 0, 1) := dk_42 (dk_at dksX1_number_1 9 rfl rfl)
theorem dX1_number_32 : decode cX1_number 32 = .ok (.getfield 9, 3) := dk_180 0 9 (dk_at dksX1_number_1 10 rfl rfl)
theorem dX1_number_35 : decode cX1_number 35 = .ok (.checkcast 19, 3) := dk_192 0 19 (dk_at dksX1_number_1 13 rfl rfl)
theorem dX1_number_38 : decode cX1_number 38 = .ok (.iload_n 1, 1) := dk_27 (dk_at dksX1_number_1 16 rfl rfl)
theorem dX1_number_39 : decode cX1_number 39 = .ok (.saload, 1) := dk_53 (dk_at dksX1_number_1 17 rfl rfl)
theorem dX1_number_40 : decode cX1_number 40 = .ok (.i2l, 1) := dk_133 (dk_at dksX1_number_1 18 rfl rfl)
theorem dX1_number_41 : decode cX1_number 41 = .ok (.lreturn, 1) := dk_173 (dk_at dksX1_number_1 19 rfl rfl)
theorem dX1_number_42 : decode cX1_number 42 = .ok (.aload_n 0, 1) := dk_42 (dk_at dksX1_number_1 20 rfl rfl)
theorem dX1_number_43 : decode cX1_number 43 = .ok (.getfield 9, 3) := dk_180 0 9 (dk_at dksX1_number_1 21 rfl rfl)
theorem dX1_number_46 : decode cX1_number 46 = .ok (.instanceof 21, 3) := dk_193 0 21 (dk_at dksX1_number_2 0 rfl rfl)
theorem dX1_number_49 : decode cX1_number 49 = .ok (.ifCond .eq 16, 3) := dk_153 0 16 (dk_at dksX1_number_2 3 rfl rfl)
theorem dX1_number_52 : decode cX1_number 52 = .ok (.aload_n 0, 1) := dk_42 (dk_at dksX1_number_2 6 rfl rfl)
theorem dX1_number_53 : decode cX1_number 53 = .ok (.getfield 9, 3) := dk_180 0 9 (dk_at dksX1_number_2 7 rfl rfl)
theorem dX1_number_56 : decode cX1_number 56 = .ok (.checkcast 21, 3) := dk_192 0 21 (dk_at dksX1_number_2 10 rfl rfl)
theorem dX1_number_59 : decode cX1_number 59 = .ok (.iload_n 1, 1) := dk_27 (dk_at dksX1_number_2 13 rfl rfl)
theorem dX1_number_60 : decode cX1_number 60 = .ok (.iaload, 1) := dk_46 (dk_at dksX1_number_2 14 rfl rfl)
theorem dX1_number_61 : decode cX1_number 61 = .ok (.i2l, 1) := dk_133 (dk_at dksX1_number_2 15 rfl rfl)
theorem dX1_number_62 : decode cX1_number 62 = .ok (.goto 12, 3) := dk_167 0 12 (dk_at dksX1_number_2 16 rfl rfl)
theorem dX1_number_65 : decode cX1_number 65 = .ok (.aload_n 0, 1) := dk_42 (dk_at dksX1_number_2 19 rfl rfl)
theorem dX1_number_66 : decode cX1_number 66 = .ok (.getfield 9, 3) := dk_180 0 9 (dk_at dksX1_number_2 20 rfl rfl)
theorem dX1_number_69 : decode cX1_number 69 = .ok (.checkcast 23, 3) := dk_192 0 23 (dk_at dksX1_number_3 0 rfl rfl)
theorem dX1_number_72 : decode cX1_number 72 = .ok (.iload_n 1, 1) := dk_27 (dk_at dksX1_number_3 3 rfl rfl)
theorem dX1_number_73 : decode cX1_number 73 = .ok (.laload, 1) := dk_47 (dk_at dksX1_number_3 4 rfl rfl)
theorem dX1_number_74 : decode cX1_number 74 = .ok (.lreturn, 1) := dk_173 (dk_at dksX1_number_3 5 rfl rfl)
theorem q134 : (Jvm.Cond.initialized "FloodLent$Slot") ∈ lw_all := lw_g (lw_at lw_m1 2 rfl) rfl
theorem q178 : (Jvm.Cond.instanceMethod ({ cls := "FloodLent$Slot", name := "begins", desc := "(II)Z" } : Jvm.MethodName)) ∈ lw_all := lw_g (lw_at lw_m1 46 rfl) rfl
theorem q179 : (Jvm.Cond.selects "FloodLent$Slot" ({ cls := "FloodLent$Slot", name := "begins", desc := "(II)Z" } : Jvm.MethodName) ({ cls := "FloodLent$Slot", name := "begins", desc := "(II)Z" } : Jvm.MethodName)) ∈ lw_all := lw_g (lw_at lw_m1 47 rfl) rfl
theorem q180 : (Jvm.Cond.codeWith ({ cls := "FloodLent$Slot", name := "begins", desc := "(II)Z" } : Jvm.MethodName) prog_9_method_2_code (4 : Nat) (Option.some Jvm.ClassFile.FieldType.boolean) [((0 : Nat), (65 : Nat), (68 : Nat), (15 : Nat))]) ∈ lw_all := lw_g (lw_at lw_m1 48 rfl) rfl
theorem q181 : (Jvm.Cond.classLink "FloodLent$Slot" (15 : Nat) "java/lang/NegativeArraySizeException") ∈ lw_all := lw_g (lw_at lw_m1 49 rfl) rfl
theorem q277 : (Jvm.Cond.instanceMethod ({ cls := "FloodLent$Slot", name := "puts", desc := "(IJ)I" } : Jvm.MethodName)) ∈ lw_all := lw_g (lw_at lw_m1 145 rfl) rfl
theorem q278 : (Jvm.Cond.selects "FloodLent$Slot" ({ cls := "FloodLent$Slot", name := "puts", desc := "(IJ)I" } : Jvm.MethodName) ({ cls := "FloodLent$Slot", name := "puts", desc := "(IJ)I" } : Jvm.MethodName)) ∈ lw_all := lw_g (lw_at lw_m1 146 rfl) rfl
theorem q279 : (Jvm.Cond.codeWith ({ cls := "FloodLent$Slot", name := "puts", desc := "(IJ)I" } : Jvm.MethodName) prog_9_method_5_code (5 : Nat) (Option.some Jvm.ClassFile.FieldType.int) [((0 : Nat), (6 : Nat), (9 : Nat), (29 : Nat)), ((0 : Nat), (6 : Nat), (14 : Nat), (31 : Nat))]) ∈ lw_all := lw_g (lw_at lw_m1 147 rfl) rfl
theorem q280 : (Jvm.Cond.classLink "FloodLent$Slot" (29 : Nat) "java/lang/NullPointerException") ∈ lw_all := lw_g (lw_at lw_m1 148 rfl) rfl
theorem q305 : (Jvm.Cond.classLink "FloodLent$Slot" (31 : Nat) "java/lang/ArrayIndexOutOfBoundsException") ∈ lw_all := lw_g (lw_at lw_m1 173 rfl) rfl
theorem q324 : (Jvm.Cond.methodLink "FloodLent$Slot" (25 : Nat) ({ cls := "FloodLent$Slot", name := "put", desc := "(IJ)V" } : Jvm.MethodName)) ∈ lw_all := lw_g (lw_at lw_m1 192 rfl) rfl
theorem q325 : (Jvm.Cond.privateMethod ({ cls := "FloodLent$Slot", name := "put", desc := "(IJ)V" } : Jvm.MethodName)) ∈ lw_tbl := lw_at lw_m1 193 rfl
theorem q326 : (Jvm.Cond.instanceMethod ({ cls := "FloodLent$Slot", name := "put", desc := "(IJ)V" } : Jvm.MethodName)) ∈ lw_all := lw_g (lw_at lw_m1 194 rfl) rfl
theorem q327 : (Jvm.Cond.instantiable "FloodLent$Slot" (1 : Nat)) ∈ lw_all := lw_g (lw_at lw_m1 195 rfl) rfl
theorem q328 : (Jvm.Cond.code ({ cls := "FloodLent$Slot", name := "put", desc := "(IJ)V" } : Jvm.MethodName) prog_9_method_6_code (5 : Nat) (Option.none : Option Jvm.ClassFile.FieldType)) ∈ lw_all := lw_g (lw_at lw_m1 196 rfl) rfl
theorem q329 : (Jvm.Cond.classLink "FloodLent$Slot" (17 : Nat) "[B") ∈ lw_all := lw_g (lw_at lw_m1 197 rfl) rfl
theorem q330 : (Jvm.Cond.classLink "FloodLent$Slot" (19 : Nat) "[S") ∈ lw_all := lw_g (lw_at lw_m1 198 rfl) rfl
theorem q331 : (Jvm.Cond.methodLink "FloodLent$Slot" (33 : Nat) ({ cls := "FloodLent$Slot", name := "putWider", desc := "(IJ)V" } : Jvm.MethodName)) ∈ lw_all := lw_g (lw_at lw_m1 199 rfl) rfl
theorem q332 : (Jvm.Cond.privateMethod ({ cls := "FloodLent$Slot", name := "putWider", desc := "(IJ)V" } : Jvm.MethodName)) ∈ lw_tbl := lw_at lw_m1 200 rfl
theorem q333 : (Jvm.Cond.instanceMethod ({ cls := "FloodLent$Slot", name := "putWider", desc := "(IJ)V" } : Jvm.MethodName)) ∈ lw_all := lw_g (lw_at lw_m1 201 rfl) rfl
theorem q334 : (Jvm.Cond.codeWith ({ cls := "FloodLent$Slot", name := "putWider", desc := "(IJ)V" } : Jvm.MethodName) prog_9_method_7_code (6 : Nat) (Option.none : Option Jvm.ClassFile.FieldType) [((0 : Nat), (15 : Nat), (18 : Nat), (36 : Nat))]) ∈ lw_all := lw_g (lw_at lw_m1 202 rfl) rfl
theorem q335 : (Jvm.Cond.classLink "FloodLent$Slot" (36 : Nat) "java/lang/ClassCastException") ∈ lw_all := lw_g (lw_at lw_m1 203 rfl) rfl
theorem q349 : (Jvm.Cond.classLink "FloodLent$Slot" (21 : Nat) "[I") ∈ lw_all := lw_g (lw_at lw_m1 217 rfl) rfl
theorem q350 : (Jvm.Cond.classLink "FloodLent$Slot" (23 : Nat) "[J") ∈ lw_all := lw_g (lw_at lw_m1 218 rfl) rfl
theorem q356 : (Jvm.Cond.instanceMethod ({ cls := "FloodLent$Slot", name := "pastes", desc := "(ILFloodLent$Slot;II)I" } : Jvm.MethodName)) ∈ lw_all := lw_g (lw_at lw_m1 224 rfl) rfl
theorem q357 : (Jvm.Cond.selects "FloodLent$Slot" ({ cls := "FloodLent$Slot", name := "pastes", desc := "(ILFloodLent$Slot;II)I" } : Jvm.MethodName) ({ cls := "FloodLent$Slot", name := "pastes", desc := "(ILFloodLent$Slot;II)I" } : Jvm.MethodName)) ∈ lw_all := lw_g (lw_at lw_m1 225 rfl) rfl
theorem q358 : (Jvm.Cond.codeWith ({ cls := "FloodLent$Slot", name := "pastes", desc := "(ILFloodLent$Slot;II)I" } : Jvm.MethodName) prog_9_method_9_code (6 : Nat) (Option.some Jvm.ClassFile.FieldType.int) [((31 : Nat), (46 : Nat), (49 : Nat), (48 : Nat))]) ∈ lw_all := lw_g (lw_at lw_m1 226 rfl) rfl
theorem q359 : (Jvm.Cond.classLink "FloodLent$Slot" (48 : Nat) "java/lang/IndexOutOfBoundsException") ∈ lw_all := lw_g (lw_at lw_m1 227 rfl) rfl
theorem q360 : (Jvm.Cond.methodLink "FloodLent$Slot" (38 : Nat) ({ cls := "FloodLent$Slot", name := "width", desc := "()I" } : Jvm.MethodName)) ∈ lw_all := lw_g (lw_at lw_m1 228 rfl) rfl
theorem q361 : (Jvm.Cond.privateMethod ({ cls := "FloodLent$Slot", name := "width", desc := "()I" } : Jvm.MethodName)) ∈ lw_tbl := lw_at lw_m1 229 rfl
theorem q362 : (Jvm.Cond.instanceMethod ({ cls := "FloodLent$Slot", name := "width", desc := "()I" } : Jvm.MethodName)) ∈ lw_all := lw_g (lw_at lw_m1 230 rfl) rfl
theorem q363 : (Jvm.Cond.code ({ cls := "FloodLent$Slot", name := "width", desc := "()I" } : Jvm.MethodName) prog_9_method_8_code (1 : Nat) (Option.some Jvm.ClassFile.FieldType.int)) ∈ lw_all := lw_g (lw_at lw_m1 231 rfl) rfl
theorem q364 : (Jvm.Cond.methodLink "FloodLent$Slot" (42 : Nat) ({ cls := "java/lang/System", name := "arraycopy", desc := "(Ljava/lang/Object;ILjava/lang/Object;II)V" } : Jvm.MethodName)) ∈ lw_all := lw_g (lw_at lw_m1 232 rfl) rfl
theorem q376 : (Jvm.Cond.instanceMethod ({ cls := "FloodLent$Slot", name := "<init>", desc := "()V" } : Jvm.MethodName)) ∈ lw_all := lw_g (lw_at lw_m2 4 rfl) rfl
theorem q377 : (Jvm.Cond.code ({ cls := "FloodLent$Slot", name := "<init>", desc := "()V" } : Jvm.MethodName) prog_9_method_1_code (1 : Nat) (Option.none : Option Jvm.ClassFile.FieldType)) ∈ lw_all := lw_g (lw_at lw_m2 5 rfl) rfl
theorem q378 : (Jvm.Cond.methodLink "FloodLent$Slot" (3 : Nat) ({ cls := "java/lang/Object", name := "<init>", desc := "()V" } : Jvm.MethodName)) ∈ lw_all := lw_g (lw_at lw_m2 6 rfl) rfl
theorem q379 : (Jvm.Cond.fieldLink "FloodLent$Slot" (9 : Nat) "FloodLent$Slot" "held" "Ljava/lang/Object;") ∈ lw_all := lw_g (lw_at lw_m2 7 rfl) rfl
theorem q381 : (Jvm.Cond.lays "FloodLent$Slot" "FloodLent$Slot" "held" "Ljava/lang/Object;") ∈ lw_all := lw_g (lw_at lw_m2 9 rfl) rfl
theorem q382 : (Jvm.Cond.soleField "FloodLent$Slot" "held") ∈ lw_all := lw_g (lw_at lw_m2 10 rfl) rfl
theorem q383 : (Jvm.Cond.superclass "FloodLent$Slot" "java/lang/Object") ∈ lw_all := lw_g (lw_at lw_m2 11 rfl) rfl
theorem q925 : (Jvm.Cond.selects "FloodLent$Slot" ({ cls := "java/lang/Object", name := "getClass", desc := "()Ljava/lang/Class;" } : Jvm.MethodName) ({ cls := "java/lang/Object", name := "getClass", desc := "()Ljava/lang/Class;" } : Jvm.MethodName)) ∈ lw_all := lw_g (lw_at lw_m4 73 rfl) rfl
theorem q1275 : (Jvm.Cond.instanceMethod ({ cls := "FloodLent$Slot", name := "many", desc := "()I" } : Jvm.MethodName)) ∈ lw_all := lw_g (lw_at lw_m5 183 rfl) rfl
theorem q1276 : (Jvm.Cond.selects "FloodLent$Slot" ({ cls := "FloodLent$Slot", name := "many", desc := "()I" } : Jvm.MethodName) ({ cls := "FloodLent$Slot", name := "many", desc := "()I" } : Jvm.MethodName)) ∈ lw_all := lw_g (lw_at lw_m5 184 rfl) rfl
theorem q1277 : (Jvm.Cond.code ({ cls := "FloodLent$Slot", name := "many", desc := "()I" } : Jvm.MethodName) prog_9_method_3_code (1 : Nat) (Option.some Jvm.ClassFile.FieldType.int)) ∈ lw_all := lw_g (lw_at lw_m5 185 rfl) rfl
theorem q1279 : (Jvm.Cond.instanceMethod ({ cls := "FloodLent$Slot", name := "number", desc := "(I)J" } : Jvm.MethodName)) ∈ lw_all := lw_g (lw_at lw_m5 187 rfl) rfl
theorem q1280 : (Jvm.Cond.selects "FloodLent$Slot" ({ cls := "FloodLent$Slot", name := "number", desc := "(I)J" } : Jvm.MethodName) ({ cls := "FloodLent$Slot", name := "number", desc := "(I)J" } : Jvm.MethodName)) ∈ lw_all := lw_g (lw_at lw_m5 188 rfl) rfl
theorem q1281 : (Jvm.Cond.code ({ cls := "FloodLent$Slot", name := "number", desc := "(I)J" } : Jvm.MethodName) prog_9_method_4_code (2 : Nat) (Option.some Jvm.ClassFile.FieldType.long)) ∈ lw_all := lw_g (lw_at lw_m5 189 rfl) rfl
theorem q2113 : (Jvm.Cond.castable "FloodLent$Slot" "java/lang/Object") ∈ lw_tbl := lw_at lw_m9 61 rfl
theorem in_X1 : ∀ w ∈ wsX10, w ∈ lw_all := lw_in wsX10 [381] (by decide +kernel) (by decide +kernel)

/-! FloodLent$Lent -/
set_option maxRecDepth 100000
def RX10 : String := "FloodLent$Lent"
def TX10 : u_T := fun k => match k with
  | 0 => ("FloodLent$Lent", "from", "I", true)
  | 1 => ("FloodLent$Lent", "to", "I", true)
  | 2 => ("FloodLent$Lent", "many", "I", true)
  | 3 => ("FloodLent$Lent", "on", "I", true)
  | 4 => ("FloodLent$Lent", "till", "I", true)
  | _ => ("FloodLent$Lent", "odds", "I", true)
def tyX10 : Nat → FieldType := fun k => match k with
  | 0 => .int
  | 1 => .int
  | 2 => .int
  | 3 => .int
  | 4 => .int
  | _ => .int
abbrev wsX100 : List Cond := u_ws RX10 TX10 6
theorem nmX10 : ∀ a, a < 6 → ∀ b, b < 6 → a ≠ b → (TX10 a).2.1 ≠ (TX10 b).2.1 := by decide +kernel
theorem tyX10_ok : ∀ k, k < 6 → parseFieldDescriptor (TX10 k).2.2.1 = some (tyX10 k) := by decide +kernel
abbrev cX10_init : ByteArray := prog_5_method_1_code
def yX10_init : MethodName := ⟨RX10, "<init>", "(IIIIII)V"⟩
def dkwX10_init_1 : List UInt8 := [181, 0, 19, 42, 21, 5, 181, 0, 22, 42, 21, 6, 181, 0, 25, 177]
abbrev dktX10_init_1 : List UInt8 := dkwX10_init_1 ++ []
def dkwX10_init_0 : List UInt8 := [42, 183, 0, 1, 42, 27, 181, 0, 7, 42, 28, 181, 0, 13, 42, 29, 181, 0, 16, 42, 21, 4]
abbrev dktX10_init_0 : List UInt8 := dkwX10_init_0 ++ dktX10_init_1
theorem dksX10_init_0 : cX10_init.data.toList.drop 0 = dktX10_init_0 := by decide +kernel
theorem dksX10_init_1 : cX10_init.data.toList.drop 22 = dktX10_init_1 := dk_seg dksX10_init_0 22 rfl rfl
theorem dX10_init_0 : decode cX10_init 0 = .ok (.aload_n 0, 1) := dk_42 (dk_at dksX10_init_0 0 rfl rfl)
theorem dX10_init_1 : decode cX10_init 1 = .ok (.invokespecial 1, 3) := dk_183 0 1 (dk_at dksX10_init_0 1 rfl rfl)
theorem dX10_init_4 : decode cX10_init 4 = .ok (.aload_n 0, 1) := dk_42 (dk_at dksX10_init_0 4 rfl rfl)
theorem dX10_init_5 : decode cX10_init 5 = .ok (.iload_n 1, 1) := dk_27 (dk_at dksX10_init_0 5 rfl rfl)
theorem dX10_init_6 : decode cX10_init 6 = .ok (.putfield 7, 3) := dk_181 0 7 (dk_at dksX10_init_0 6 rfl rfl)
theorem dX10_init_9 : decode cX10_init 9 = .ok (.aload_n 0, 1) := dk_42 (dk_at dksX10_init_0 9 rfl rfl)
theorem dX10_init_10 : decode cX10_init 10 = .ok (.iload_n 2, 1) := dk_28 (dk_at dksX10_init_0 10 rfl rfl)
theorem dX10_init_11 : decode cX10_init 11 = .ok (.putfield 13, 3) := dk_181 0 13 (dk_at dksX10_init_0 11 rfl rfl)
theorem dX10_init_14 : decode cX10_init 14 = .ok (.aload_n 0, 1) := dk_42 (dk_at dksX10_init_0 14 rfl rfl)
theorem dX10_init_15 : decode cX10_init 15 = .ok (.iload_n 3, 1) := dk_29 (dk_at dksX10_init_0 15 rfl rfl)
theorem dX10_init_16 : decode cX10_init 16 = .ok (.putfield 16, 3) := dk_181 0 16 (dk_at dksX10_init_0 16 rfl rfl)
theorem dX10_init_19 : decode cX10_init 19 = .ok (.aload_n 0, 1) := dk_42 (dk_at dksX10_init_0 19 rfl rfl)
theorem dX10_init_20 : decode cX10_init 20 = .ok (.iload 4, 2) := dk_21 4 (dk_at dksX10_init_0 20 rfl rfl)
theorem dX10_init_22 : decode cX10_init 22 = .ok (.putfield 19, 3) := dk_181 0 19 (dk_at dksX10_init_1 0 rfl rfl)
theorem dX10_init_25 : decode cX10_init 25 = .ok (.aload_n 0, 1) := dk_42 (dk_at dksX10_init_1 3 rfl rfl)
theorem dX10_init_26 : decode cX10_init 26 = .ok (.iload 5, 2) := dk_21 5 (dk_at dksX10_init_1 4 rfl rfl)
theorem dX10_init_28 : decode cX10_init 28 = .ok (.putfield 22, 3) := dk_181 0 22 (dk_at dksX10_init_1 6 rfl rfl)
theorem dX10_init_31 : decode cX10_init 31 = .ok (.aload_n 0, 1) := dk_42 (dk_at dksX10_init_1 9 rfl rfl)
theorem dX10_init_32 : decode cX10_init 32 = .ok (.iload 6, 2) := dk_21 6 (dk_at dksX10_init_1 10 rfl rfl)
theorem dX10_init_34 : decode cX10_init 34 = .ok (.putfield 25, 3) := dk_181 0 25 (dk_at dksX10_init_1 12 rfl rfl)
theorem dX10_init_37 : decode cX10_init 37 = .ok (.return_, 1) := dk_177 (dk_at dksX10_init_1 15 rfl rfl)
theorem q157 : (Jvm.Cond.initialized "FloodLent$Lent") ∈ lw_all := lw_g (lw_at lw_m1 25 rfl) rfl
theorem q921 : (Jvm.Cond.selects "FloodLent$Lent" ({ cls := "java/lang/Object", name := "getClass", desc := "()Ljava/lang/Class;" } : Jvm.MethodName) ({ cls := "java/lang/Object", name := "getClass", desc := "()Ljava/lang/Class;" } : Jvm.MethodName)) ∈ lw_all := lw_g (lw_at lw_m4 69 rfl) rfl
theorem q991 : (Jvm.Cond.instantiable "FloodLent$Lent" (6 : Nat)) ∈ lw_all := lw_g (lw_at lw_m4 139 rfl) rfl
theorem q994 : (Jvm.Cond.instanceMethod ({ cls := "FloodLent$Lent", name := "<init>", desc := "(IIIIII)V" } : Jvm.MethodName)) ∈ lw_all := lw_g (lw_at lw_m4 142 rfl) rfl
theorem q995 : (Jvm.Cond.code ({ cls := "FloodLent$Lent", name := "<init>", desc := "(IIIIII)V" } : Jvm.MethodName) prog_5_method_1_code (7 : Nat) (Option.none : Option Jvm.ClassFile.FieldType)) ∈ lw_all := lw_g (lw_at lw_m4 143 rfl) rfl
theorem q996 : (Jvm.Cond.methodLink "FloodLent$Lent" (1 : Nat) ({ cls := "java/lang/Object", name := "<init>", desc := "()V" } : Jvm.MethodName)) ∈ lw_all := lw_g (lw_at lw_m4 144 rfl) rfl
theorem q997 : (Jvm.Cond.fieldLink "FloodLent$Lent" (7 : Nat) "FloodLent$Lent" "from" "I") ∈ lw_all := lw_g (lw_at lw_m4 145 rfl) rfl
theorem q999 : (Jvm.Cond.fieldLink "FloodLent$Lent" (13 : Nat) "FloodLent$Lent" "to" "I") ∈ lw_all := lw_g (lw_at lw_m4 147 rfl) rfl
theorem q1002 : (Jvm.Cond.fieldLink "FloodLent$Lent" (16 : Nat) "FloodLent$Lent" "many" "I") ∈ lw_all := lw_g (lw_at lw_m4 150 rfl) rfl
theorem q1004 : (Jvm.Cond.fieldLink "FloodLent$Lent" (19 : Nat) "FloodLent$Lent" "on" "I") ∈ lw_all := lw_g (lw_at lw_m4 152 rfl) rfl
theorem q1006 : (Jvm.Cond.fieldLink "FloodLent$Lent" (22 : Nat) "FloodLent$Lent" "till" "I") ∈ lw_all := lw_g (lw_at lw_m4 154 rfl) rfl
theorem q1008 : (Jvm.Cond.fieldLink "FloodLent$Lent" (25 : Nat) "FloodLent$Lent" "odds" "I") ∈ lw_all := lw_g (lw_at lw_m4 156 rfl) rfl
theorem q1010 : (Jvm.Cond.laysFinal "FloodLent$Lent" "FloodLent$Lent" "from" "I") ∈ lw_all := lw_g (lw_at lw_m4 158 rfl) rfl
theorem q1011 : (Jvm.Cond.soleField "FloodLent$Lent" "from") ∈ lw_all := lw_g (lw_at lw_m4 159 rfl) rfl
theorem q1012 : (Jvm.Cond.laysFinal "FloodLent$Lent" "FloodLent$Lent" "to" "I") ∈ lw_all := lw_g (lw_at lw_m4 160 rfl) rfl
theorem q1013 : (Jvm.Cond.soleField "FloodLent$Lent" "to") ∈ lw_all := lw_g (lw_at lw_m4 161 rfl) rfl
theorem q1014 : (Jvm.Cond.laysFinal "FloodLent$Lent" "FloodLent$Lent" "many" "I") ∈ lw_all := lw_g (lw_at lw_m4 162 rfl) rfl
theorem q1015 : (Jvm.Cond.soleField "FloodLent$Lent" "many") ∈ lw_all := lw_g (lw_at lw_m4 163 rfl) rfl
theorem q1016 : (Jvm.Cond.laysFinal "FloodLent$Lent" "FloodLent$Lent" "on" "I") ∈ lw_all := lw_g (lw_at lw_m4 164 rfl) rfl
theorem q1017 : (Jvm.Cond.soleField "FloodLent$Lent" "on") ∈ lw_all := lw_g (lw_at lw_m4 165 rfl) rfl
theorem q1018 : (Jvm.Cond.laysFinal "FloodLent$Lent" "FloodLent$Lent" "till" "I") ∈ lw_all := lw_g (lw_at lw_m4 166 rfl) rfl
theorem q1019 : (Jvm.Cond.soleField "FloodLent$Lent" "till") ∈ lw_all := lw_g (lw_at lw_m4 167 rfl) rfl
theorem q1020 : (Jvm.Cond.laysFinal "FloodLent$Lent" "FloodLent$Lent" "odds" "I") ∈ lw_all := lw_g (lw_at lw_m4 168 rfl) rfl
theorem q1021 : (Jvm.Cond.soleField "FloodLent$Lent" "odds") ∈ lw_all := lw_g (lw_at lw_m4 169 rfl) rfl
theorem q1022 : (Jvm.Cond.superclass "FloodLent$Lent" "java/lang/Object") ∈ lw_all := lw_g (lw_at lw_m4 170 rfl) rfl
theorem q2125 : (Jvm.Cond.castable "FloodLent$Lent" "java/lang/Object") ∈ lw_tbl := lw_at lw_m9 73 rfl
theorem in_X10 : ∀ w ∈ wsX100, w ∈ lw_all := lw_in wsX100 [1010, 1012, 1014, 1016, 1018, 1020] (by decide +kernel) (by decide +kernel)

/-! FloodLent$Image -/
set_option maxRecDepth 100000
def RX11 : String := "FloodLent$Image"
def TX11 : u_T := fun k => match k with
  | 0 => ("FloodLent$Image", "takers", "[I", true)
  | 1 => ("FloodLent$Image", "plain", "LFloodLent$Plain;", false)
  | _ => ("FloodLent$Image", "more", "I", false)
def tyX11 : Nat → FieldType := fun k => match k with
  | 0 => .array .int
  | 1 => .object "FloodLent$Plain"
  | _ => .int
abbrev wsX110 : List Cond := u_ws RX11 TX11 3
theorem nmX11 : ∀ a, a < 3 → ∀ b, b < 3 → a ≠ b → (TX11 a).2.1 ≠ (TX11 b).2.1 := by decide +kernel
theorem tyX11_ok : ∀ k, k < 3 → parseFieldDescriptor (TX11 k).2.2.1 = some (tyX11 k) := by decide +kernel
abbrev cX11_init : ByteArray := prog_4_method_1_code
def yX11_init : MethodName := ⟨RX11, "<init>", "()V"⟩
def dkwX11_init_0 : List UInt8 := [42, 183, 0, 3, 42, 6, 188, 10, 181, 0, 9, 177]
abbrev dktX11_init_0 : List UInt8 := dkwX11_init_0 ++ []
theorem dksX11_init_0 : cX11_init.data.toList.drop 0 = dktX11_init_0 := by decide +kernel
theorem dX11_init_0 : decode cX11_init 0 = .ok (.aload_n 0, 1) := dk_42 (dk_at dksX11_init_0 0 rfl rfl)
theorem dX11_init_1 : decode cX11_init 1 = .ok (.invokespecial 3, 3) := dk_183 0 3 (dk_at dksX11_init_0 1 rfl rfl)
theorem dX11_init_4 : decode cX11_init 4 = .ok (.aload_n 0, 1) := dk_42 (dk_at dksX11_init_0 4 rfl rfl)
theorem dX11_init_5 : decode cX11_init 5 = .ok (.iconst 3, 1) := dk_6 (dk_at dksX11_init_0 5 rfl rfl)
theorem dX11_init_6 : decode cX11_init 6 = .ok (.newarray .int, 2) := dk_188_10 (dk_at dksX11_init_0 6 rfl rfl)
theorem dX11_init_8 : decode cX11_init 8 = .ok (.putfield 9, 3) := dk_181 0 9 (dk_at dksX11_init_0 8 rfl rfl)
theorem dX11_init_11 : decode cX11_init 11 = .ok (.return_, 1) := dk_177 (dk_at dksX11_init_0 11 rfl rfl)
theorem q160 : (Jvm.Cond.initialized "FloodLent$Image") ∈ lw_all := lw_g (lw_at lw_m1 28 rfl) rfl
theorem q920 : (Jvm.Cond.selects "FloodLent$Image" ({ cls := "java/lang/Object", name := "getClass", desc := "()Ljava/lang/Class;" } : Jvm.MethodName) ({ cls := "java/lang/Object", name := "getClass", desc := "()Ljava/lang/Class;" } : Jvm.MethodName)) ∈ lw_all := lw_g (lw_at lw_m4 68 rfl) rfl
theorem q1445 : (Jvm.Cond.instantiable "FloodLent$Image" (3 : Nat)) ∈ lw_all := lw_g (lw_at lw_m6 113 rfl) rfl
theorem q1447 : (Jvm.Cond.instanceMethod ({ cls := "FloodLent$Image", name := "<init>", desc := "()V" } : Jvm.MethodName)) ∈ lw_all := lw_g (lw_at lw_m6 115 rfl) rfl
theorem q1448 : (Jvm.Cond.code ({ cls := "FloodLent$Image", name := "<init>", desc := "()V" } : Jvm.MethodName) prog_4_method_1_code (1 : Nat) (Option.none : Option Jvm.ClassFile.FieldType)) ∈ lw_all := lw_g (lw_at lw_m6 116 rfl) rfl
theorem q1449 : (Jvm.Cond.methodLink "FloodLent$Image" (3 : Nat) ({ cls := "java/lang/Object", name := "<init>", desc := "()V" } : Jvm.MethodName)) ∈ lw_all := lw_g (lw_at lw_m6 117 rfl) rfl
theorem q1450 : (Jvm.Cond.fieldLink "FloodLent$Image" (9 : Nat) "FloodLent$Image" "takers" "[I") ∈ lw_all := lw_g (lw_at lw_m6 118 rfl) rfl
theorem q1454 : (Jvm.Cond.laysFinal "FloodLent$Image" "FloodLent$Image" "takers" "[I") ∈ lw_all := lw_g (lw_at lw_m6 122 rfl) rfl
theorem q1455 : (Jvm.Cond.soleField "FloodLent$Image" "takers") ∈ lw_all := lw_g (lw_at lw_m6 123 rfl) rfl
theorem q1456 : (Jvm.Cond.lays "FloodLent$Image" "FloodLent$Image" "plain" "LFloodLent$Plain;") ∈ lw_all := lw_g (lw_at lw_m6 124 rfl) rfl
theorem q1457 : (Jvm.Cond.soleField "FloodLent$Image" "plain") ∈ lw_all := lw_g (lw_at lw_m6 125 rfl) rfl
theorem q1458 : (Jvm.Cond.lays "FloodLent$Image" "FloodLent$Image" "more" "I") ∈ lw_all := lw_g (lw_at lw_m6 126 rfl) rfl
theorem q1459 : (Jvm.Cond.soleField "FloodLent$Image" "more") ∈ lw_all := lw_g (lw_at lw_m6 127 rfl) rfl
theorem q1460 : (Jvm.Cond.superclass "FloodLent$Image" "java/lang/Object") ∈ lw_all := lw_g (lw_at lw_m6 128 rfl) rfl
theorem q2114 : (Jvm.Cond.castable "FloodLent$Image" "java/lang/Object") ∈ lw_tbl := lw_at lw_m9 62 rfl
theorem in_X11 : ∀ w ∈ wsX110, w ∈ lw_all := lw_in wsX110 [1454, 1456, 1458] (by decide +kernel) (by decide +kernel)

/-! FloodLent$Plain -/
set_option maxRecDepth 100000
def RX2 : String := "FloodLent$Plain"
def TX2 : u_T := fun k => match k with
  | 0 => ("FloodLent$Plain", "villages", "Ljava/util/List;", true)
  | 1 => ("FloodLent$Plain", "crops", "Ljava/util/List;", true)
  | 2 => ("FloodLent$Plain", "floods", "Ljava/util/List;", true)
  | 3 => ("FloodLent$Plain", "loans", "Ljava/util/List;", true)
  | 4 => ("FloodLent$Plain", "sun", "[I", true)
  | 5 => ("FloodLent$Plain", "weeks", "I", false)
  | 6 => ("FloodLent$Plain", "more", "I", false)
  | 7 => ("FloodLent$Plain", "back", "I", false)
  | _ => ("FloodLent$Plain", "lines", "I", false)
def tyX2 : Nat → FieldType := fun k => match k with
  | 0 => .object "java/util/List"
  | 1 => .object "java/util/List"
  | 2 => .object "java/util/List"
  | 3 => .object "java/util/List"
  | 4 => .array .int
  | 5 => .int
  | 6 => .int
  | 7 => .int
  | _ => .int
abbrev wsX20 : List Cond := u_ws RX2 TX2 9
theorem nmX2 : ∀ a, a < 9 → ∀ b, b < 9 → a ≠ b → (TX2 a).2.1 ≠ (TX2 b).2.1 := by decide +kernel
theorem tyX2_ok : ∀ k, k < 9 → parseFieldDescriptor (TX2 k).2.2.1 = some (tyX2 k) := by decide +kernel
abbrev cX2_init : ByteArray := prog_6_method_1_code
def yX2_init : MethodName := ⟨RX2, "<init>", "()V"⟩
def dkwX2_init_2 : List UInt8 := [183, 0, 11, 181, 0, 26, 42, 16, 30, 188, 10, 181, 0, 29, 177]
abbrev dktX2_init_2 : List UInt8 := dkwX2_init_2 ++ []
def dkwX2_init_1 : List UInt8 := [183, 0, 11, 181, 0, 20, 42, 187, 0, 9, 89, 6, 183, 0, 11, 181, 0, 23, 42, 187, 0, 9, 89, 7]
abbrev dktX2_init_1 : List UInt8 := dkwX2_init_1 ++ dktX2_init_2
def dkwX2_init_0 : List UInt8 := [42, 183, 0, 3, 42, 187, 0, 9, 89, 16, 6, 183, 0, 11, 181, 0, 14, 42, 187, 0, 9, 89, 7]
abbrev dktX2_init_0 : List UInt8 := dkwX2_init_0 ++ dktX2_init_1
theorem dksX2_init_0 : cX2_init.data.toList.drop 0 = dktX2_init_0 := by decide +kernel
theorem dksX2_init_1 : cX2_init.data.toList.drop 23 = dktX2_init_1 := dk_seg dksX2_init_0 23 rfl rfl
theorem dksX2_init_2 : cX2_init.data.toList.drop 47 = dktX2_init_2 := dk_seg dksX2_init_1 24 rfl rfl
theorem dX2_init_0 : decode cX2_init 0 = .ok (.aload_n 0, 1) := dk_42 (dk_at dksX2_init_0 0 rfl rfl)
theorem dX2_init_1 : decode cX2_init 1 = .ok (.invokespecial 3, 3) := dk_183 0 3 (dk_at dksX2_init_0 1 rfl rfl)
theorem dX2_init_4 : decode cX2_init 4 = .ok (.aload_n 0, 1) := dk_42 (dk_at dksX2_init_0 4 rfl rfl)
theorem dX2_init_5 : decode cX2_init 5 = .ok (.new 9, 3) := dk_187 0 9 (dk_at dksX2_init_0 5 rfl rfl)
theorem dX2_init_8 : decode cX2_init 8 = .ok (.dup, 1) := dk_89 (dk_at dksX2_init_0 8 rfl rfl)
theorem dX2_init_9 : decode cX2_init 9 = .ok (.bipush 6, 2) := dk_16 6 (dk_at dksX2_init_0 9 rfl rfl)
theorem dX2_init_11 : decode cX2_init 11 = .ok (.invokespecial 11, 3) := dk_183 0 11 (dk_at dksX2_init_0 11 rfl rfl)
theorem dX2_init_14 : decode cX2_init 14 = .ok (.putfield 14, 3) := dk_181 0 14 (dk_at dksX2_init_0 14 rfl rfl)
theorem dX2_init_17 : decode cX2_init 17 = .ok (.aload_n 0, 1) := dk_42 (dk_at dksX2_init_0 17 rfl rfl)
theorem dX2_init_18 : decode cX2_init 18 = .ok (.new 9, 3) := dk_187 0 9 (dk_at dksX2_init_0 18 rfl rfl)
theorem dX2_init_21 : decode cX2_init 21 = .ok (.dup, 1) := dk_89 (dk_at dksX2_init_0 21 rfl rfl)
theorem dX2_init_22 : decode cX2_init 22 = .ok (.iconst 4, 1) := dk_7 (dk_at dksX2_init_0 22 rfl rfl)
theorem dX2_init_23 : decode cX2_init 23 = .ok (.invokespecial 11, 3) := dk_183 0 11 (dk_at dksX2_init_1 0 rfl rfl)
theorem dX2_init_26 : decode cX2_init 26 = .ok (.putfield 20, 3) := dk_181 0 20 (dk_at dksX2_init_1 3 rfl rfl)
theorem dX2_init_29 : decode cX2_init 29 = .ok (.aload_n 0, 1) := dk_42 (dk_at dksX2_init_1 6 rfl rfl)
theorem dX2_init_30 : decode cX2_init 30 = .ok (.new 9, 3) := dk_187 0 9 (dk_at dksX2_init_1 7 rfl rfl)
theorem dX2_init_33 : decode cX2_init 33 = .ok (.dup, 1) := dk_89 (dk_at dksX2_init_1 10 rfl rfl)
theorem dX2_init_34 : decode cX2_init 34 = .ok (.iconst 3, 1) := dk_6 (dk_at dksX2_init_1 11 rfl rfl)
theorem dX2_init_35 : decode cX2_init 35 = .ok (.invokespecial 11, 3) := dk_183 0 11 (dk_at dksX2_init_1 12 rfl rfl)
theorem dX2_init_38 : decode cX2_init 38 = .ok (.putfield 23, 3) := dk_181 0 23 (dk_at dksX2_init_1 15 rfl rfl)
theorem dX2_init_41 : decode cX2_init 41 = .ok (.aload_n 0, 1) := dk_42 (dk_at dksX2_init_1 18 rfl rfl)
theorem dX2_init_42 : decode cX2_init 42 = .ok (.new 9, 3) := dk_187 0 9 (dk_at dksX2_init_1 19 rfl rfl)
theorem dX2_init_45 : decode cX2_init 45 = .ok (.dup, 1) := dk_89 (dk_at dksX2_init_1 22 rfl rfl)
theorem dX2_init_46 : decode cX2_init 46 = .ok (.iconst 4, 1) := dk_7 (dk_at dksX2_init_1 23 rfl rfl)
theorem dX2_init_47 : decode cX2_init 47 = .ok (.invokespecial 11, 3) := dk_183 0 11 (dk_at dksX2_init_2 0 rfl rfl)
theorem dX2_init_50 : decode cX2_init 50 = .ok (.putfield 26, 3) := dk_181 0 26 (dk_at dksX2_init_2 3 rfl rfl)
theorem dX2_init_53 : decode cX2_init 53 = .ok (.aload_n 0, 1) := dk_42 (dk_at dksX2_init_2 6 rfl rfl)
theorem dX2_init_54 : decode cX2_init 54 = .ok (.bipush 30, 2) := dk_16 30 (dk_at dksX2_init_2 7 rfl rfl)
theorem dX2_init_56 : decode cX2_init 56 = .ok (.newarray .int, 2) := dk_188_10 (dk_at dksX2_init_2 9 rfl rfl)
theorem dX2_init_58 : decode cX2_init 58 = .ok (.putfield 29, 3) := dk_181 0 29 (dk_at dksX2_init_2 11 rfl rfl)
theorem dX2_init_61 : decode cX2_init 61 = .ok (.return_, 1) := dk_177 (dk_at dksX2_init_2 14 rfl rfl)
abbrev cX2_is : ByteArray := prog_6_method_2_code
def yX2_is : MethodName := ⟨RX2, "is", "()Z"⟩
def dkwX2_is_0 : List UInt8 := [42, 180, 0, 33, 158, 0, 7, 4, 167, 0, 4, 3, 172]
abbrev dktX2_is_0 : List UInt8 := dkwX2_is_0 ++ []
theorem dksX2_is_0 : cX2_is.data.toList.drop 0 = dktX2_is_0 := by decide +kernel
theorem dX2_is_0 : decode cX2_is 0 = .ok (.aload_n 0, 1) := dk_42 (dk_at dksX2_is_0 0 rfl rfl)
theorem dX2_is_1 : decode cX2_is 1 = .ok (.getfield 33, 3) := dk_180 0 33 (dk_at dksX2_is_0 1 rfl rfl)
theorem dX2_is_4 : decode cX2_is 4 = .ok (.ifCond .le 7, 3) := dk_158 0 7 (dk_at dksX2_is_0 4 rfl rfl)
theorem dX2_is_7 : decode cX2_is 7 = .ok (.iconst 1, 1) := dk_4 (dk_at dksX2_is_0 7 rfl rfl)
theorem dX2_is_8 : decode cX2_is 8 = .ok (.goto 4, 3) := dk_167 0 4 (dk_at dksX2_is_0 8 rfl rfl)
theorem dX2_is_11 : decode cX2_is 11 = .ok (.iconst 0, 1) := dk_3 (dk_at dksX2_is_0 11 rfl rfl)
theorem dX2_is_12 : decode cX2_is 12 = .ok (.ireturn, 1) := dk_172 (dk_at dksX2_is_0 12 rfl rfl)
theorem q135 : (Jvm.Cond.initialized "FloodLent$Plain") ∈ lw_all := lw_g (lw_at lw_m1 3 rfl) rfl
theorem q385 : (Jvm.Cond.instantiable "FloodLent$Plain" (9 : Nat)) ∈ lw_all := lw_g (lw_at lw_m2 13 rfl) rfl
theorem q387 : (Jvm.Cond.instanceMethod ({ cls := "FloodLent$Plain", name := "<init>", desc := "()V" } : Jvm.MethodName)) ∈ lw_all := lw_g (lw_at lw_m2 15 rfl) rfl
theorem q388 : (Jvm.Cond.code ({ cls := "FloodLent$Plain", name := "<init>", desc := "()V" } : Jvm.MethodName) prog_6_method_1_code (1 : Nat) (Option.none : Option Jvm.ClassFile.FieldType)) ∈ lw_all := lw_g (lw_at lw_m2 16 rfl) rfl
theorem q389 : (Jvm.Cond.methodLink "FloodLent$Plain" (3 : Nat) ({ cls := "java/lang/Object", name := "<init>", desc := "()V" } : Jvm.MethodName)) ∈ lw_all := lw_g (lw_at lw_m2 17 rfl) rfl
theorem q390 : (Jvm.Cond.classLink "FloodLent$Plain" (9 : Nat) "java/util/ArrayList") ∈ lw_all := lw_g (lw_at lw_m2 18 rfl) rfl
theorem q392 : (Jvm.Cond.methodLink "FloodLent$Plain" (11 : Nat) ({ cls := "java/util/ArrayList", name := "<init>", desc := "(I)V" } : Jvm.MethodName)) ∈ lw_all := lw_g (lw_at lw_m2 20 rfl) rfl
theorem q418 : (Jvm.Cond.fieldLink "FloodLent$Plain" (14 : Nat) "FloodLent$Plain" "villages" "Ljava/util/List;") ∈ lw_all := lw_g (lw_at lw_m2 46 rfl) rfl
theorem q422 : (Jvm.Cond.fieldLink "FloodLent$Plain" (20 : Nat) "FloodLent$Plain" "crops" "Ljava/util/List;") ∈ lw_all := lw_g (lw_at lw_m2 50 rfl) rfl
theorem q426 : (Jvm.Cond.fieldLink "FloodLent$Plain" (23 : Nat) "FloodLent$Plain" "floods" "Ljava/util/List;") ∈ lw_all := lw_g (lw_at lw_m2 54 rfl) rfl
theorem q430 : (Jvm.Cond.fieldLink "FloodLent$Plain" (26 : Nat) "FloodLent$Plain" "loans" "Ljava/util/List;") ∈ lw_all := lw_g (lw_at lw_m2 58 rfl) rfl
theorem q434 : (Jvm.Cond.fieldLink "FloodLent$Plain" (29 : Nat) "FloodLent$Plain" "sun" "[I") ∈ lw_all := lw_g (lw_at lw_m2 62 rfl) rfl
theorem q445 : (Jvm.Cond.fieldLink "FloodLent$Plain" (33 : Nat) "FloodLent$Plain" "lines" "I") ∈ lw_all := lw_g (lw_at lw_m2 73 rfl) rfl
theorem q448 : (Jvm.Cond.laysFinal "FloodLent$Plain" "FloodLent$Plain" "villages" "Ljava/util/List;") ∈ lw_all := lw_g (lw_at lw_m2 76 rfl) rfl
theorem q449 : (Jvm.Cond.soleField "FloodLent$Plain" "villages") ∈ lw_all := lw_g (lw_at lw_m2 77 rfl) rfl
theorem q450 : (Jvm.Cond.laysFinal "FloodLent$Plain" "FloodLent$Plain" "crops" "Ljava/util/List;") ∈ lw_all := lw_g (lw_at lw_m2 78 rfl) rfl
theorem q451 : (Jvm.Cond.soleField "FloodLent$Plain" "crops") ∈ lw_all := lw_g (lw_at lw_m2 79 rfl) rfl
theorem q452 : (Jvm.Cond.laysFinal "FloodLent$Plain" "FloodLent$Plain" "floods" "Ljava/util/List;") ∈ lw_all := lw_g (lw_at lw_m2 80 rfl) rfl
theorem q453 : (Jvm.Cond.soleField "FloodLent$Plain" "floods") ∈ lw_all := lw_g (lw_at lw_m2 81 rfl) rfl
theorem q454 : (Jvm.Cond.laysFinal "FloodLent$Plain" "FloodLent$Plain" "loans" "Ljava/util/List;") ∈ lw_all := lw_g (lw_at lw_m2 82 rfl) rfl
theorem q455 : (Jvm.Cond.soleField "FloodLent$Plain" "loans") ∈ lw_all := lw_g (lw_at lw_m2 83 rfl) rfl
theorem q456 : (Jvm.Cond.laysFinal "FloodLent$Plain" "FloodLent$Plain" "sun" "[I") ∈ lw_all := lw_g (lw_at lw_m2 84 rfl) rfl
theorem q457 : (Jvm.Cond.soleField "FloodLent$Plain" "sun") ∈ lw_all := lw_g (lw_at lw_m2 85 rfl) rfl
theorem q458 : (Jvm.Cond.lays "FloodLent$Plain" "FloodLent$Plain" "weeks" "I") ∈ lw_all := lw_g (lw_at lw_m2 86 rfl) rfl
theorem q459 : (Jvm.Cond.soleField "FloodLent$Plain" "weeks") ∈ lw_all := lw_g (lw_at lw_m2 87 rfl) rfl
theorem q460 : (Jvm.Cond.lays "FloodLent$Plain" "FloodLent$Plain" "more" "I") ∈ lw_all := lw_g (lw_at lw_m2 88 rfl) rfl
theorem q461 : (Jvm.Cond.soleField "FloodLent$Plain" "more") ∈ lw_all := lw_g (lw_at lw_m2 89 rfl) rfl
theorem q462 : (Jvm.Cond.lays "FloodLent$Plain" "FloodLent$Plain" "back" "I") ∈ lw_all := lw_g (lw_at lw_m2 90 rfl) rfl
theorem q463 : (Jvm.Cond.soleField "FloodLent$Plain" "back") ∈ lw_all := lw_g (lw_at lw_m2 91 rfl) rfl
theorem q464 : (Jvm.Cond.lays "FloodLent$Plain" "FloodLent$Plain" "lines" "I") ∈ lw_all := lw_g (lw_at lw_m2 92 rfl) rfl
theorem q465 : (Jvm.Cond.soleField "FloodLent$Plain" "lines") ∈ lw_all := lw_g (lw_at lw_m2 93 rfl) rfl
theorem q466 : (Jvm.Cond.superclass "FloodLent$Plain" "java/lang/Object") ∈ lw_all := lw_g (lw_at lw_m2 94 rfl) rfl
theorem q922 : (Jvm.Cond.selects "FloodLent$Plain" ({ cls := "java/lang/Object", name := "getClass", desc := "()Ljava/lang/Class;" } : Jvm.MethodName) ({ cls := "java/lang/Object", name := "getClass", desc := "()Ljava/lang/Class;" } : Jvm.MethodName)) ∈ lw_all := lw_g (lw_at lw_m4 70 rfl) rfl
theorem q1053 : (Jvm.Cond.instanceMethod ({ cls := "FloodLent$Plain", name := "is", desc := "()Z" } : Jvm.MethodName)) ∈ lw_all := lw_g (lw_at lw_m4 201 rfl) rfl
theorem q1054 : (Jvm.Cond.selects "FloodLent$Plain" ({ cls := "FloodLent$Plain", name := "is", desc := "()Z" } : Jvm.MethodName) ({ cls := "FloodLent$Plain", name := "is", desc := "()Z" } : Jvm.MethodName)) ∈ lw_all := lw_g (lw_at lw_m4 202 rfl) rfl
theorem q1055 : (Jvm.Cond.code ({ cls := "FloodLent$Plain", name := "is", desc := "()Z" } : Jvm.MethodName) prog_6_method_2_code (1 : Nat) (Option.some Jvm.ClassFile.FieldType.boolean)) ∈ lw_all := lw_g (lw_at lw_m4 203 rfl) rfl
theorem q2116 : (Jvm.Cond.castable "FloodLent$Plain" "java/lang/Object") ∈ lw_tbl := lw_at lw_m9 64 rfl
theorem in_X2 : ∀ w ∈ wsX20, w ∈ lw_all := lw_in wsX20 [448, 450, 452, 454, 456, 458, 460, 462, 464] (by decide +kernel) (by decide +kernel)

/-! FloodLent$Reader -/
set_option maxRecDepth 100000
def RX6 : String := "FloodLent$Reader"
def TX6 : u_T := fun k => match k with
  | 0 => ("FloodLent$Reader", "text", "[B", true)
  | 1 => ("FloodLent$Reader", "many", "I", true)
  | 2 => ("FloodLent$Reader", "p", "LFloodLent$Plain;", true)
  | 3 => ("FloodLent$Reader", "at", "I", false)
  | 4 => ("FloodLent$Reader", "begin", "I", false)
  | 5 => ("FloodLent$Reader", "token", "I", false)
  | _ => ("FloodLent$Reader", "value", "I", false)
def tyX6 : Nat → FieldType := fun k => match k with
  | 0 => .array .byte
  | 1 => .int
  | 2 => .object "FloodLent$Plain"
  | 3 => .int
  | 4 => .int
  | 5 => .int
  | _ => .int
abbrev wsX60 : List Cond := u_ws RX6 TX6 7
theorem nmX6 : ∀ a, a < 7 → ∀ b, b < 7 → a ≠ b → (TX6 a).2.1 ≠ (TX6 b).2.1 := by decide +kernel
theorem tyX6_ok : ∀ k, k < 7 → parseFieldDescriptor (TX6 k).2.2.1 = some (tyX6 k) := by decide +kernel
abbrev cX6_init : ByteArray := prog_7_method_1_code
def yX6_init : MethodName := ⟨RX6, "<init>", "([BI)V"⟩
def dkwX6_init_1 : List UInt8 := [181, 0, 22, 42, 182, 0, 26, 177]
abbrev dktX6_init_1 : List UInt8 := dkwX6_init_1 ++ []
def dkwX6_init_0 : List UInt8 := [42, 183, 0, 3, 42, 187, 0, 9, 89, 183, 0, 11, 181, 0, 12, 42, 43, 181, 0, 18, 42, 28]
abbrev dktX6_init_0 : List UInt8 := dkwX6_init_0 ++ dktX6_init_1
theorem dksX6_init_0 : cX6_init.data.toList.drop 0 = dktX6_init_0 := by decide +kernel
theorem dksX6_init_1 : cX6_init.data.toList.drop 22 = dktX6_init_1 := dk_seg dksX6_init_0 22 rfl rfl
theorem dX6_init_0 : decode cX6_init 0 = .ok (.aload_n 0, 1) := dk_42 (dk_at dksX6_init_0 0 rfl rfl)
theorem dX6_init_1 : decode cX6_init 1 = .ok (.invokespecial 3, 3) := dk_183 0 3 (dk_at dksX6_init_0 1 rfl rfl)
theorem dX6_init_4 : decode cX6_init 4 = .ok (.aload_n 0, 1) := dk_42 (dk_at dksX6_init_0 4 rfl rfl)
theorem dX6_init_5 : decode cX6_init 5 = .ok (.new 9, 3) := dk_187 0 9 (dk_at dksX6_init_0 5 rfl rfl)
theorem dX6_init_8 : decode cX6_init 8 = .ok (.dup, 1) := dk_89 (dk_at dksX6_init_0 8 rfl rfl)
theorem dX6_init_9 : decode cX6_init 9 = .ok (.invokespecial 11, 3) := dk_183 0 11 (dk_at dksX6_init_0 9 rfl rfl)
theorem dX6_init_12 : decode cX6_init 12 = .ok (.putfield 12, 3) := dk_181 0 12 (dk_at dksX6_init_0 12 rfl rfl)
theorem dX6_init_15 : decode cX6_init 15 = .ok (.aload_n 0, 1) := dk_42 (dk_at dksX6_init_0 15 rfl rfl)
theorem dX6_init_16 : decode cX6_init 16 = .ok (.aload_n 1, 1) := dk_43 (dk_at dksX6_init_0 16 rfl rfl)
theorem dX6_init_17 : decode cX6_init 17 = .ok (.putfield 18, 3) := dk_181 0 18 (dk_at dksX6_init_0 17 rfl rfl)
theorem dX6_init_20 : decode cX6_init 20 = .ok (.aload_n 0, 1) := dk_42 (dk_at dksX6_init_0 20 rfl rfl)
theorem dX6_init_21 : decode cX6_init 21 = .ok (.iload_n 2, 1) := dk_28 (dk_at dksX6_init_0 21 rfl rfl)
theorem dX6_init_22 : decode cX6_init 22 = .ok (.putfield 22, 3) := dk_181 0 22 (dk_at dksX6_init_1 0 rfl rfl)
theorem dX6_init_25 : decode cX6_init 25 = .ok (.aload_n 0, 1) := dk_42 (dk_at dksX6_init_1 3 rfl rfl)
theorem dX6_init_26 : decode cX6_init 26 = .ok (.invokevirtual 26, 3) := dk_182 0 26 (dk_at dksX6_init_1 4 rfl rfl)
theorem dX6_init_29 : decode cX6_init 29 = .ok (.return_, 1) := dk_177 (dk_at dksX6_init_1 7 rfl rfl)
abbrev cX6_next : ByteArray := prog_7_method_3_code
def yX6_next : MethodName := ⟨RX6, "next", "()V"⟩
def dkwX6_next_8 : List UInt8 := [7, 181, 0, 46, 42, 89, 180, 0, 29, 4, 96, 181, 0, 29, 177]
abbrev dktX6_next_8 : List UInt8 := dkwX6_next_8 ++ []
def dkwX6_next_7 : List UInt8 := [4, 96, 181, 0, 29, 167, 255, 206, 42, 42, 16, 59, 16, 59, 182, 0, 36, 153, 0, 7, 6, 167, 0, 4]
abbrev dktX6_next_7 : List UInt8 := dkwX6_next_7 ++ dktX6_next_8
def dkwX6_next_6 : List UInt8 := [42, 180, 0, 18, 42, 180, 0, 29, 51, 96, 16, 48, 100, 184, 0, 50, 181, 0, 43, 42, 89, 180, 0, 29]
abbrev dktX6_next_6 : List UInt8 := dkwX6_next_6 ++ dktX6_next_7
def dkwX6_next_5 : List UInt8 := [181, 0, 46, 42, 16, 48, 16, 57, 182, 0, 36, 153, 0, 75, 42, 18, 49, 16, 10, 42, 180, 0, 43, 104]
abbrev dktX6_next_5 : List UInt8 := dkwX6_next_5 ++ dktX6_next_6
def dkwX6_next_4 : List UInt8 := [180, 0, 29, 4, 96, 181, 0, 29, 167, 255, 235, 42, 16, 48, 16, 57, 182, 0, 36, 153, 0, 61, 42, 5]
abbrev dktX6_next_4 : List UInt8 := dkwX6_next_4 ++ dktX6_next_5
def dkwX6_next_3 : List UInt8 := [182, 0, 36, 153, 0, 32, 42, 4, 181, 0, 46, 42, 16, 97, 16, 122, 182, 0, 36, 153, 0, 115, 42, 89]
abbrev dktX6_next_3 : List UInt8 := dkwX6_next_3 ++ dktX6_next_4
def dkwX6_next_2 : List UInt8 := [42, 180, 0, 29, 42, 180, 0, 22, 160, 0, 11, 42, 3, 181, 0, 46, 167, 0, 142, 42, 16, 97, 16, 122]
abbrev dktX6_next_2 : List UInt8 := dkwX6_next_2 ++ dktX6_next_3
def dkwX6_next_1 : List UInt8 := [180, 0, 29, 4, 96, 181, 0, 29, 167, 255, 224, 42, 42, 180, 0, 29, 181, 0, 40, 42, 3, 181, 0, 43]
abbrev dktX6_next_1 : List UInt8 := dkwX6_next_1 ++ dktX6_next_2
def dkwX6_next_0 : List UInt8 := [42, 16, 32, 16, 32, 182, 0, 36, 154, 0, 14, 42, 16, 10, 16, 10, 182, 0, 36, 153, 0, 16, 42, 89]
abbrev dktX6_next_0 : List UInt8 := dkwX6_next_0 ++ dktX6_next_1
theorem dksX6_next_0 : cX6_next.data.toList.drop 0 = dktX6_next_0 := by decide +kernel
theorem dksX6_next_1 : cX6_next.data.toList.drop 24 = dktX6_next_1 := dk_seg dksX6_next_0 24 rfl rfl
theorem dksX6_next_2 : cX6_next.data.toList.drop 48 = dktX6_next_2 := dk_seg dksX6_next_1 24 rfl rfl
theorem dksX6_next_3 : cX6_next.data.toList.drop 72 = dktX6_next_3 := dk_seg dksX6_next_2 24 rfl rfl
theorem dksX6_next_4 : cX6_next.data.toList.drop 96 = dktX6_next_4 := dk_seg dksX6_next_3 24 rfl rfl
theorem dksX6_next_5 : cX6_next.data.toList.drop 120 = dktX6_next_5 := dk_seg dksX6_next_4 24 rfl rfl
theorem dksX6_next_6 : cX6_next.data.toList.drop 144 = dktX6_next_6 := dk_seg dksX6_next_5 24 rfl rfl
theorem dksX6_next_7 : cX6_next.data.toList.drop 168 = dktX6_next_7 := dk_seg dksX6_next_6 24 rfl rfl
theorem dksX6_next_8 : cX6_next.data.toList.drop 192 = dktX6_next_8 := dk_seg dksX6_next_7 24 rfl rfl
theorem dX6_next_0 : decode cX6_next 0 = .ok (.aload_n 0, 1) := dk_42 (dk_at dksX6_next_0 0 rfl rfl)
theorem dX6_next_1 : decode cX6_next 1 = .ok (.bipush 32, 2) := dk_16 32 (dk_at dksX6_next_0 1 rfl rfl)
theorem dX6_next_3 : decode cX6_next 3 = .ok (.bipush 32, 2) := dk_16 32 (dk_at dksX6_next_0 3 rfl rfl)
theorem dX6_next_5 : decode cX6_next 5 = .ok (.invokevirtual 36, 3) := dk_182 0 36 (dk_at dksX6_next_0 5 rfl rfl)
theorem dX6_next_8 : decode cX6_next 8 = .ok (.ifCond .ne 14, 3) := dk_154 0 14 (dk_at dksX6_next_0 8 rfl rfl)
theorem dX6_next_11 : decode cX6_next 11 = .ok (.aload_n 0, 1) := dk_42 (dk_at dksX6_next_0 11 rfl rfl)
theorem dX6_next_12 : decode cX6_next 12 = .ok (.bipush 10, 2) := dk_16 10 (dk_at dksX6_next_0 12 rfl rfl)
theorem dX6_next_14 : decode cX6_next 14 = .ok (.bipush 10, 2) := dk_16 10 (dk_at dksX6_next_0 14 rfl rfl)
theorem dX6_next_16 : decode cX6_next 16 = .ok (.invokevirtual 36, 3) := dk_182 0 36 (dk_at dksX6_next_0 16 rfl rfl)
theorem dX6_next_19 : decode cX6_next 19 = .ok (.ifCond .eq 16, 3) := dk_153 0 16 (dk_at dksX6_next_0 19 rfl rfl)
theorem dX6_next_22 : decode cX6_next 22 = .ok (.aload_n 0, 1) := dk_42 (dk_at dksX6_next_0 22 rfl rfl)
theorem dX6_next_23 : decode cX6_next 23 = .ok (.dup, 1) := dk_89 (dk_at dksX6_next_0 23 rfl rfl)
theorem dX6_next_24 : decode cX6_next 24 = .ok (.getfield 29, 3) := dk_180 0 29 (dk_at dksX6_next_1 0 rfl rfl)
theorem dX6_next_27 : decode cX6_next 27 = .ok (.iconst 1, 1) := dk_4 (dk_at dksX6_next_1 3 rfl rfl)
theorem dX6_next_28 : decode cX6_next 28 = .ok (.iadd, 1) := dk_96 (dk_at dksX6_next_1 4 rfl rfl)
theorem dX6_next_29 : decode cX6_next 29 = .ok (.putfield 29, 3) := dk_181 0 29 (dk_at dksX6_next_1 5 rfl rfl)
theorem dX6_next_32 : decode cX6_next 32 = .ok (.goto (-32), 3) := dk_167 255 224 (dk_at dksX6_next_1 8 rfl rfl)
theorem dX6_next_35 : decode cX6_next 35 = .ok (.aload_n 0, 1) := dk_42 (dk_at dksX6_next_1 11 rfl rfl)
theorem dX6_next_36 : decode cX6_next 36 = .ok (.aload_n 0, 1) := dk_42 (dk_at dksX6_next_1 12 rfl rfl)
theorem dX6_next_37 : decode cX6_next 37 = .ok (.getfield 29, 3) := dk_180 0 29 (dk_at dksX6_next_1 13 rfl rfl)
theorem dX6_next_40 : decode cX6_next 40 = .ok (.putfield 40, 3) := dk_181 0 40 (dk_at dksX6_next_1 16 rfl rfl)
theorem dX6_next_43 : decode cX6_next 43 = .ok (.aload_n 0, 1) := dk_42 (dk_at dksX6_next_1 19 rfl rfl)
theorem dX6_next_44 : decode cX6_next 44 = .ok (.iconst 0, 1) := dk_3 (dk_at dksX6_next_1 20 rfl rfl)
theorem dX6_next_45 : decode cX6_next 45 = .ok (.putfield 43, 3) := dk_181 0 43 (dk_at dksX6_next_1 21 rfl rfl)
theorem dX6_next_48 : decode cX6_next 48 = .ok (.aload_n 0, 1) := dk_42 (dk_at dksX6_next_2 0 rfl rfl)
theorem dX6_next_49 : decode cX6_next 49 = .ok (.getfield 29, 3) := dk_180 0 29 (dk_at dksX6_next_2 1 rfl rfl)
theorem dX6_next_52 : decode cX6_next 52 = .ok (.aload_n 0, 1) := dk_42 (dk_at dksX6_next_2 4 rfl rfl)
theorem dX6_next_53 : decode cX6_next 53 = .ok (.getfield 22, 3) := dk_180 0 22 (dk_at dksX6_next_2 5 rfl rfl)
theorem dX6_next_56 : decode cX6_next 56 = .ok (.if_icmp .ne 11, 3) := dk_160 0 11 (dk_at dksX6_next_2 8 rfl rfl)
theorem dX6_next_59 : decode cX6_next 59 = .ok (.aload_n 0, 1) := dk_42 (dk_at dksX6_next_2 11 rfl rfl)
theorem dX6_next_60 : decode cX6_next 60 = .ok (.iconst 0, 1) := dk_3 (dk_at dksX6_next_2 12 rfl rfl)
theorem dX6_next_61 : decode cX6_next 61 = .ok (.putfield 46, 3) := dk_181 0 46 (dk_at dksX6_next_2 13 rfl rfl)
theorem dX6_next_64 : decode cX6_next 64 = .ok (.goto 142, 3) := dk_167 0 142 (dk_at dksX6_next_2 16 rfl rfl)
theorem dX6_next_67 : decode cX6_next 67 = .ok (.aload_n 0, 1) := dk_42 (dk_at dksX6_next_2 19 rfl rfl)
theorem dX6_next_68 : decode cX6_next 68 = .ok (.bipush 97, 2) := dk_16 97 (dk_at dksX6_next_2 20 rfl rfl)
theorem dX6_next_70 : decode cX6_next 70 = .ok (.bipush 122, 2) := dk_16 122 (dk_at dksX6_next_2 22 rfl rfl)
theorem dX6_next_72 : decode cX6_next 72 = .ok (.invokevirtual 36, 3) := dk_182 0 36 (dk_at dksX6_next_3 0 rfl rfl)
theorem dX6_next_75 : decode cX6_next 75 = .ok (.ifCond .eq 32, 3) := dk_153 0 32 (dk_at dksX6_next_3 3 rfl rfl)
theorem dX6_next_78 : decode cX6_next 78 = .ok (.aload_n 0, 1) := dk_42 (dk_at dksX6_next_3 6 rfl rfl)
theorem dX6_next_79 : decode cX6_next 79 = .ok (.iconst 1, 1) := dk_4 (dk_at dksX6_next_3 7 rfl rfl)
theorem dX6_next_80 : decode cX6_next 80 = .ok (.putfield 46, 3) := dk_181 0 46 (dk_at dksX6_next_3 8 rfl rfl)
theorem dX6_next_83 : decode cX6_next 83 = .ok (.aload_n 0, 1) := dk_42 (dk_at dksX6_next_3 11 rfl rfl)
theorem dX6_next_84 : decode cX6_next 84 = .ok (.bipush 97, 2) := dk_16 97 (dk_at dksX6_next_3 12 rfl rfl)
theorem dX6_next_86 : decode cX6_next 86 = .ok (.bipush 122, 2) := dk_16 122 (dk_at dksX6_next_3 14 rfl rfl)
theorem dX6_next_88 : decode cX6_next 88 = .ok (.invokevirtual 36, 3) := dk_182 0 36 (dk_at dksX6_next_3 16 rfl rfl)
theorem dX6_next_91 : decode cX6_next 91 = .ok (.ifCond .eq 115, 3) := dk_153 0 115 (dk_at dksX6_next_3 19 rfl rfl)
theorem dX6_next_94 : decode cX6_next 94 = .ok (.aload_n 0, 1) := dk_42 (dk_at dksX6_next_3 22 rfl rfl)
theorem dX6_next_95 : decode cX6_next 95 = .ok (.dup, 1) := dk_89 (dk_at dksX6_next_3 23 rfl rfl)
theorem dX6_next_96 : decode cX6_next 96 = .ok (.getfield 29, 3) := dk_180 0 29 (dk_at dksX6_next_4 0 rfl rfl)
theorem dX6_next_99 : decode cX6_next 99 = .ok (.iconst 1, 1) := dk_4 (dk_at dksX6_next_4 3 rfl rfl)
theorem dX6_next_100 : decode cX6_next 100 = .ok (.iadd, 1) := dk_96 (dk_at dksX6_next_4 4 rfl rfl)
theorem dX6_next_101 : decode cX6_next 101 = .ok (.putfield 29, 3) := dk_181 0 29 (dk_at dksX6_next_4 5 rfl rfl)
theorem dX6_next_104 : decode cX6_next 104 = .ok (.goto (-21), 3) := dk_167 255 235 (dk_at dksX6_next_4 8 rfl rfl)
theorem dX6_next_107 : decode cX6_next 107 = .ok (.aload_n 0, 1) := dk_42 (dk_at dksX6_next_4 11 rfl rfl)
theorem dX6_next_108 : decode cX6_next 108 = .ok (.bipush 48, 2) := dk_16 48 (dk_at dksX6_next_4 12 rfl rfl)
theorem dX6_next_110 : decode cX6_next 110 = .ok (.bipush 57, 2) := dk_16 57 (dk_at dksX6_next_4 14 rfl rfl)
theorem dX6_next_112 : decode cX6_next 112 = .ok (.invokevirtual 36, 3) := dk_182 0 36 (dk_at dksX6_next_4 16 rfl rfl)
theorem dX6_next_115 : decode cX6_next 115 = .ok (.ifCond .eq 61, 3) := dk_153 0 61 (dk_at dksX6_next_4 19 rfl rfl)
theorem dX6_next_118 : decode cX6_next 118 = .ok (.aload_n 0, 1) := dk_42 (dk_at dksX6_next_4 22 rfl rfl)
theorem dX6_next_119 : decode cX6_next 119 = .ok (.iconst 2, 1) := dk_5 (dk_at dksX6_next_4 23 rfl rfl)
theorem dX6_next_120 : decode cX6_next 120 = .ok (.putfield 46, 3) := dk_181 0 46 (dk_at dksX6_next_5 0 rfl rfl)
theorem dX6_next_123 : decode cX6_next 123 = .ok (.aload_n 0, 1) := dk_42 (dk_at dksX6_next_5 3 rfl rfl)
theorem dX6_next_124 : decode cX6_next 124 = .ok (.bipush 48, 2) := dk_16 48 (dk_at dksX6_next_5 4 rfl rfl)
theorem dX6_next_126 : decode cX6_next 126 = .ok (.bipush 57, 2) := dk_16 57 (dk_at dksX6_next_5 6 rfl rfl)
theorem dX6_next_128 : decode cX6_next 128 = .ok (.invokevirtual 36, 3) := dk_182 0 36 (dk_at dksX6_next_5 8 rfl rfl)
theorem dX6_next_131 : decode cX6_next 131 = .ok (.ifCond .eq 75, 3) := dk_153 0 75 (dk_at dksX6_next_5 11 rfl rfl)
theorem dX6_next_134 : decode cX6_next 134 = .ok (.aload_n 0, 1) := dk_42 (dk_at dksX6_next_5 14 rfl rfl)
theorem dX6_next_135 : decode cX6_next 135 = .ok (.ldc 49, 2) := dk_18 49 (dk_at dksX6_next_5 15 rfl rfl)
theorem dX6_next_137 : decode cX6_next 137 = .ok (.bipush 10, 2) := dk_16 10 (dk_at dksX6_next_5 17 rfl rfl)
theorem dX6_next_139 : decode cX6_next 139 = .ok (.aload_n 0, 1) := dk_42 (dk_at dksX6_next_5 19 rfl rfl)
theorem dX6_next_140 : decode cX6_next 140 = .ok (.getfield 43, 3) := dk_180 0 43 (dk_at dksX6_next_5 20 rfl rfl)
theorem dX6_next_143 : decode cX6_next 143 = .ok (.imul, 1) := dk_104 (dk_at dksX6_next_5 23 rfl rfl)
theorem dX6_next_144 : decode cX6_next 144 = .ok (.aload_n 0, 1) := dk_42 (dk_at dksX6_next_6 0 rfl rfl)
theorem dX6_next_145 : decode cX6_next 145 = .ok (.getfield 18, 3) := dk_180 0 18 (dk_at dksX6_next_6 1 rfl rfl)
theorem dX6_next_148 : decode cX6_next 148 = .ok (.aload_n 0, 1) := dk_42 (dk_at dksX6_next_6 4 rfl rfl)
theorem dX6_next_149 : decode cX6_next 149 = .ok (.getfield 29, 3) := dk_180 0 29 (dk_at dksX6_next_6 5 rfl rfl)
theorem dX6_next_152 : decode cX6_next 152 = .ok (.baload, 1) := dk_51 (dk_at dksX6_next_6 8 rfl rfl)
theorem dX6_next_153 : decode cX6_next 153 = .ok (.iadd, 1) := dk_96 (dk_at dksX6_next_6 9 rfl rfl)
theorem dX6_next_154 : decode cX6_next 154 = .ok (.bipush 48, 2) := dk_16 48 (dk_at dksX6_next_6 10 rfl rfl)
theorem dX6_next_156 : decode cX6_next 156 = .ok (.isub, 1) := dk_100 (dk_at dksX6_next_6 12 rfl rfl)
theorem dX6_next_157 : decode cX6_next 157 = .ok (.invokestatic 50, 3) := dk_184 0 50 (dk_at dksX6_next_6 13 rfl rfl)
theorem dX6_next_160 : decode cX6_next 160 = .ok (.putfield 43, 3) := dk_181 0 43 (dk_at dksX6_next_6 16 rfl rfl)
theorem dX6_next_163 : decode cX6_next 163 = .ok (.aload_n 0, 1) := dk_42 (dk_at dksX6_next_6 19 rfl rfl)
theorem dX6_next_164 : decode cX6_next 164 = .ok (.dup, 1) := dk_89 (dk_at dksX6_next_6 20 rfl rfl)
theorem dX6_next_165 : decode cX6_next 165 = .ok (.getfield 29, 3) := dk_180 0 29 (dk_at dksX6_next_6 21 rfl rfl)
theorem dX6_next_168 : decode cX6_next 168 = .ok (.iconst 1, 1) := dk_4 (dk_at dksX6_next_7 0 rfl rfl)
theorem dX6_next_169 : decode cX6_next 169 = .ok (.iadd, 1) := dk_96 (dk_at dksX6_next_7 1 rfl rfl)
theorem dX6_next_170 : decode cX6_next 170 = .ok (.putfield 29, 3) := dk_181 0 29 (dk_at dksX6_next_7 2 rfl rfl)
theorem dX6_next_173 : decode cX6_next 173 = .ok (.goto (-50), 3) := dk_167 255 206 (dk_at dksX6_next_7 5 rfl rfl)
theorem dX6_next_176 : decode cX6_next 176 = .ok (.aload_n 0, 1) := dk_42 (dk_at dksX6_next_7 8 rfl rfl)
theorem dX6_next_177 : decode cX6_next 177 = .ok (.aload_n 0, 1) := dk_42 (dk_at dksX6_next_7 9 rfl rfl)
theorem dX6_next_178 : decode cX6_next 178 = .ok (.bipush 59, 2) := dk_16 59 (dk_at dksX6_next_7 10 rfl rfl)
theorem dX6_next_180 : decode cX6_next 180 = .ok (.bipush 59, 2) := dk_16 59 (dk_at dksX6_next_7 12 rfl rfl)
theorem dX6_next_182 : decode cX6_next 182 = .ok (.invokevirtual 36, 3) := dk_182 0 36 (dk_at dksX6_next_7 14 rfl rfl)
theorem dX6_next_185 : decode cX6_next 185 = .ok (.ifCond .eq 7, 3) := dk_153 0 7 (dk_at dksX6_next_7 17 rfl rfl)
theorem dX6_next_188 : decode cX6_next 188 = .ok (.iconst 3, 1) := dk_6 (dk_at dksX6_next_7 20 rfl rfl)
theorem dX6_next_189 : decode cX6_next 189 = .ok (.goto 4, 3) := dk_167 0 4 (dk_at dksX6_next_7 21 rfl rfl)
theorem dX6_next_192 : decode cX6_next 192 = .ok (.iconst 4, 1) := dk_7 (dk_at dksX6_next_8 0 rfl rfl)
theorem dX6_next_193 : decode cX6_next 193 = .ok (.putfield 46, 3) := dk_181 0 46 (dk_at dksX6_next_8 1 rfl rfl)
theorem dX6_next_196 : decode cX6_next 196 = .ok (.aload_n 0, 1) := dk_42 (dk_at dksX6_next_8 4 rfl rfl)
theorem dX6_next_197 : decode cX6_next 197 = .ok (.dup, 1) := dk_89 (dk_at dksX6_next_8 5 rfl rfl)
theorem dX6_next_198 : decode cX6_next 198 = .ok (.getfield 29, 3) := dk_180 0 29 (dk_at dksX6_next_8 6 rfl rfl)
theorem dX6_next_201 : decode cX6_next 201 = .ok (.iconst 1, 1) := dk_4 (dk_at dksX6_next_8 9 rfl rfl)
theorem dX6_next_202 : decode cX6_next 202 = .ok (.iadd, 1) := dk_96 (dk_at dksX6_next_8 10 rfl rfl)
theorem dX6_next_203 : decode cX6_next 203 = .ok (.putfield 29, 3) := dk_181 0 29 (dk_at dksX6_next_8 11 rfl rfl)
theorem dX6_next_206 : decode cX6_next 206 = .ok (.return_, 1) := dk_177 (dk_at dksX6_next_8 14 rfl rfl)
abbrev cX6_isAt : ByteArray := prog_7_method_2_code
def yX6_isAt : MethodName := ⟨RX6, "isAt", "(II)Z"⟩
def dkwX6_isAt_1 : List UInt8 := [133, 184, 0, 32, 153, 0, 7, 4, 167, 0, 4, 3, 172]
abbrev dktX6_isAt_1 : List UInt8 := dkwX6_isAt_1 ++ []
def dkwX6_isAt_0 : List UInt8 := [42, 180, 0, 29, 42, 180, 0, 22, 162, 0, 27, 42, 180, 0, 18, 42, 180, 0, 29, 51, 133, 27, 133, 28]
abbrev dktX6_isAt_0 : List UInt8 := dkwX6_isAt_0 ++ dktX6_isAt_1
theorem dksX6_isAt_0 : cX6_isAt.data.toList.drop 0 = dktX6_isAt_0 := by decide +kernel
theorem dksX6_isAt_1 : cX6_isAt.data.toList.drop 24 = dktX6_isAt_1 := dk_seg dksX6_isAt_0 24 rfl rfl
theorem dX6_isAt_0 : decode cX6_isAt 0 = .ok (.aload_n 0, 1) := dk_42 (dk_at dksX6_isAt_0 0 rfl rfl)
theorem dX6_isAt_1 : decode cX6_isAt 1 = .ok (.getfield 29, 3) := dk_180 0 29 (dk_at dksX6_isAt_0 1 rfl rfl)
theorem dX6_isAt_4 : decode cX6_isAt 4 = .ok (.aload_n 0, 1) := dk_42 (dk_at dksX6_isAt_0 4 rfl rfl)
theorem dX6_isAt_5 : decode cX6_isAt 5 = .ok (.getfield 22, 3) := dk_180 0 22 (dk_at dksX6_isAt_0 5 rfl rfl)
theorem dX6_isAt_8 : decode cX6_isAt 8 = .ok (.if_icmp .ge 27, 3) := dk_162 0 27 (dk_at dksX6_isAt_0 8 rfl rfl)
theorem dX6_isAt_11 : decode cX6_isAt 11 = .ok (.aload_n 0, 1) := dk_42 (dk_at dksX6_isAt_0 11 rfl rfl)
theorem dX6_isAt_12 : decode cX6_isAt 12 = .ok (.getfield 18, 3) := dk_180 0 18 (dk_at dksX6_isAt_0 12 rfl rfl)
theorem dX6_isAt_15 : decode cX6_isAt 15 = .ok (.aload_n 0, 1) := dk_42 (dk_at dksX6_isAt_0 15 rfl rfl)
theorem dX6_isAt_16 : decode cX6_isAt 16 = .ok (.getfield 29, 3) := dk_180 0 29 (dk_at dksX6_isAt_0 16 rfl rfl)
theorem dX6_isAt_19 : decode cX6_isAt 19 = .ok (.baload, 1) := dk_51 (dk_at dksX6_isAt_0 19 rfl rfl)
theorem dX6_isAt_20 : decode cX6_isAt 20 = .ok (.i2l, 1) := dk_133 (dk_at dksX6_isAt_0 20 rfl rfl)
theorem dX6_isAt_21 : decode cX6_isAt 21 = .ok (.iload_n 1, 1) := dk_27 (dk_at dksX6_isAt_0 21 rfl rfl)
theorem dX6_isAt_22 : decode cX6_isAt 22 = .ok (.i2l, 1) := dk_133 (dk_at dksX6_isAt_0 22 rfl rfl)
theorem dX6_isAt_23 : decode cX6_isAt 23 = .ok (.iload_n 2, 1) := dk_28 (dk_at dksX6_isAt_0 23 rfl rfl)
theorem dX6_isAt_24 : decode cX6_isAt 24 = .ok (.i2l, 1) := dk_133 (dk_at dksX6_isAt_1 0 rfl rfl)
theorem dX6_isAt_25 : decode cX6_isAt 25 = .ok (.invokestatic 32, 3) := dk_184 0 32 (dk_at dksX6_isAt_1 1 rfl rfl)
theorem dX6_isAt_28 : decode cX6_isAt 28 = .ok (.ifCond .eq 7, 3) := dk_153 0 7 (dk_at dksX6_isAt_1 4 rfl rfl)
theorem dX6_isAt_31 : decode cX6_isAt 31 = .ok (.iconst 1, 1) := dk_4 (dk_at dksX6_isAt_1 7 rfl rfl)
theorem dX6_isAt_32 : decode cX6_isAt 32 = .ok (.goto 4, 3) := dk_167 0 4 (dk_at dksX6_isAt_1 8 rfl rfl)
theorem dX6_isAt_35 : decode cX6_isAt 35 = .ok (.iconst 0, 1) := dk_3 (dk_at dksX6_isAt_1 11 rfl rfl)
theorem dX6_isAt_36 : decode cX6_isAt 36 = .ok (.ireturn, 1) := dk_172 (dk_at dksX6_isAt_1 12 rfl rfl)
abbrev cX6_reads : ByteArray := prog_7_method_18_code
def yX6_reads : MethodName := ⟨RX6, "reads", "()LFloodLent$Plain;"⟩
def dkwX6_reads_2 : List UInt8 := [180, 0, 12, 89, 180, 0, 207, 4, 96, 181, 0, 207, 167, 255, 197, 42, 180, 0, 12, 176]
abbrev dktX6_reads_2 : List UInt8 := dkwX6_reads_2 ++ []
def dkwX6_reads_1 : List UInt8 := [42, 182, 0, 213, 42, 180, 0, 46, 6, 159, 0, 9, 42, 4, 182, 0, 75, 191, 42, 182, 0, 26, 42]
abbrev dktX6_reads_1 : List UInt8 := dkwX6_reads_1 ++ dktX6_reads_2
def dkwX6_reads_0 : List UInt8 := [42, 180, 0, 46, 153, 0, 58, 42, 180, 0, 12, 180, 0, 207, 154, 0, 10, 42, 182, 0, 210, 167, 0, 7]
abbrev dktX6_reads_0 : List UInt8 := dkwX6_reads_0 ++ dktX6_reads_1
theorem dksX6_reads_0 : cX6_reads.data.toList.drop 0 = dktX6_reads_0 := by decide +kernel
theorem dksX6_reads_1 : cX6_reads.data.toList.drop 24 = dktX6_reads_1 := dk_seg dksX6_reads_0 24 rfl rfl
theorem dksX6_reads_2 : cX6_reads.data.toList.drop 47 = dktX6_reads_2 := dk_seg dksX6_reads_1 23 rfl rfl
theorem dX6_reads_0 : decode cX6_reads 0 = .ok (.aload_n 0, 1) := dk_42 (dk_at dksX6_reads_0 0 rfl rfl)
theorem dX6_reads_1 : decode cX6_reads 1 = .ok (.getfield 46, 3) := dk_180 0 46 (dk_at dksX6_reads_0 1 rfl rfl)
theorem dX6_reads_4 : decode cX6_reads 4 = .ok (.ifCond .eq 58, 3) := dk_153 0 58 (dk_at dksX6_reads_0 4 rfl rfl)
theorem dX6_reads_7 : decode cX6_reads 7 = .ok (.aload_n 0, 1) := dk_42 (dk_at dksX6_reads_0 7 rfl rfl)
theorem dX6_reads_8 : decode cX6_reads 8 = .ok (.getfield 12, 3) := dk_180 0 12 (dk_at dksX6_reads_0 8 rfl rfl)
theorem dX6_reads_11 : decode cX6_reads 11 = .ok (.getfield 207, 3) := dk_180 0 207 (dk_at dksX6_reads_0 11 rfl rfl)
theorem dX6_reads_14 : decode cX6_reads 14 = .ok (.ifCond .ne 10, 3) := dk_154 0 10 (dk_at dksX6_reads_0 14 rfl rfl)
theorem dX6_reads_17 : decode cX6_reads 17 = .ok (.aload_n 0, 1) := dk_42 (dk_at dksX6_reads_0 17 rfl rfl)
theorem dX6_reads_18 : decode cX6_reads 18 = .ok (.invokevirtual 210, 3) := dk_182 0 210 (dk_at dksX6_reads_0 18 rfl rfl)
theorem dX6_reads_21 : decode cX6_reads 21 = .ok (.goto 7, 3) := dk_167 0 7 (dk_at dksX6_reads_0 21 rfl rfl)
theorem dX6_reads_24 : decode cX6_reads 24 = .ok (.aload_n 0, 1) := dk_42 (dk_at dksX6_reads_1 0 rfl rfl)
theorem dX6_reads_25 : decode cX6_reads 25 = .ok (.invokevirtual 213, 3) := dk_182 0 213 (dk_at dksX6_reads_1 1 rfl rfl)
theorem dX6_reads_28 : decode cX6_reads 28 = .ok (.aload_n 0, 1) := dk_42 (dk_at dksX6_reads_1 4 rfl rfl)
theorem dX6_reads_29 : decode cX6_reads 29 = .ok (.getfield 46, 3) := dk_180 0 46 (dk_at dksX6_reads_1 5 rfl rfl)
theorem dX6_reads_32 : decode cX6_reads 32 = .ok (.iconst 3, 1) := dk_6 (dk_at dksX6_reads_1 8 rfl rfl)
theorem dX6_reads_33 : decode cX6_reads 33 = .ok (.if_icmp .eq 9, 3) := dk_159 0 9 (dk_at dksX6_reads_1 9 rfl rfl)
theorem dX6_reads_36 : decode cX6_reads 36 = .ok (.aload_n 0, 1) := dk_42 (dk_at dksX6_reads_1 12 rfl rfl)
theorem dX6_reads_37 : decode cX6_reads 37 = .ok (.iconst 1, 1) := dk_4 (dk_at dksX6_reads_1 13 rfl rfl)
theorem dX6_reads_38 : decode cX6_reads 38 = .ok (.invokevirtual 75, 3) := dk_182 0 75 (dk_at dksX6_reads_1 14 rfl rfl)
theorem dX6_reads_41 : decode cX6_reads 41 = .ok (.athrow, 1) := dk_191 (dk_at dksX6_reads_1 17 rfl rfl)
theorem dX6_reads_42 : decode cX6_reads 42 = .ok (.aload_n 0, 1) := dk_42 (dk_at dksX6_reads_1 18 rfl rfl)
theorem dX6_reads_43 : decode cX6_reads 43 = .ok (.invokevirtual 26, 3) := dk_182 0 26 (dk_at dksX6_reads_1 19 rfl rfl)
theorem dX6_reads_46 : decode cX6_reads 46 = .ok (.aload_n 0, 1) := dk_42 (dk_at dksX6_reads_1 22 rfl rfl)
theorem dX6_reads_47 : decode cX6_reads 47 = .ok (.getfield 12, 3) := dk_180 0 12 (dk_at dksX6_reads_2 0 rfl rfl)
theorem dX6_reads_50 : decode cX6_reads 50 = .ok (.dup, 1) := dk_89 (dk_at dksX6_reads_2 3 rfl rfl)
theorem dX6_reads_51 : decode cX6_reads 51 = .ok (.getfield 207, 3) := dk_180 0 207 (dk_at dksX6_reads_2 4 rfl rfl)
theorem dX6_reads_54 : decode cX6_reads 54 = .ok (.iconst 1, 1) := dk_4 (dk_at dksX6_reads_2 7 rfl rfl)
theorem dX6_reads_55 : decode cX6_reads 55 = .ok (.iadd, 1) := dk_96 (dk_at dksX6_reads_2 8 rfl rfl)
theorem dX6_reads_56 : decode cX6_reads 56 = .ok (.putfield 207, 3) := dk_181 0 207 (dk_at dksX6_reads_2 9 rfl rfl)
theorem dX6_reads_59 : decode cX6_reads 59 = .ok (.goto (-59), 3) := dk_167 255 197 (dk_at dksX6_reads_2 12 rfl rfl)
theorem dX6_reads_62 : decode cX6_reads 62 = .ok (.aload_n 0, 1) := dk_42 (dk_at dksX6_reads_2 15 rfl rfl)
theorem dX6_reads_63 : decode cX6_reads 63 = .ok (.getfield 12, 3) := dk_180 0 12 (dk_at dksX6_reads_2 16 rfl rfl)
theorem dX6_reads_66 : decode cX6_reads 66 = .ok (.areturn, 1) := dk_176 (dk_at dksX6_reads_2 19 rfl rfl)
abbrev cX6_first : ByteArray := prog_7_method_12_code
def yX6_first : MethodName := ⟨RX6, "first", "()V"⟩
def dkwX6_first_2 : List UInt8 := [182, 0, 110, 181, 0, 114, 177]
abbrev dktX6_first_2 : List UInt8 := dkwX6_first_2 ++ []
def dkwX6_first_1 : List UInt8 := [180, 0, 12, 42, 18, 104, 3, 16, 100, 182, 0, 98, 181, 0, 106, 42, 180, 0, 12, 42, 18, 108]
abbrev dktX6_first_1 : List UInt8 := dkwX6_first_1 ++ dktX6_first_2
def dkwX6_first_0 : List UInt8 := [42, 18, 101, 182, 0, 79, 42, 180, 0, 12, 42, 18, 103, 7, 16, 30, 182, 0, 98, 181, 0, 95, 42]
abbrev dktX6_first_0 : List UInt8 := dkwX6_first_0 ++ dktX6_first_1
theorem dksX6_first_0 : cX6_first.data.toList.drop 0 = dktX6_first_0 := by decide +kernel
theorem dksX6_first_1 : cX6_first.data.toList.drop 23 = dktX6_first_1 := dk_seg dksX6_first_0 23 rfl rfl
theorem dksX6_first_2 : cX6_first.data.toList.drop 45 = dktX6_first_2 := dk_seg dksX6_first_1 22 rfl rfl
theorem dX6_first_0 : decode cX6_first 0 = .ok (.aload_n 0, 1) := dk_42 (dk_at dksX6_first_0 0 rfl rfl)
theorem dX6_first_1 : decode cX6_first 1 = .ok (.ldc 101, 2) := dk_18 101 (dk_at dksX6_first_0 1 rfl rfl)
theorem dX6_first_3 : decode cX6_first 3 = .ok (.invokevirtual 79, 3) := dk_182 0 79 (dk_at dksX6_first_0 3 rfl rfl)
theorem dX6_first_6 : decode cX6_first 6 = .ok (.aload_n 0, 1) := dk_42 (dk_at dksX6_first_0 6 rfl rfl)
theorem dX6_first_7 : decode cX6_first 7 = .ok (.getfield 12, 3) := dk_180 0 12 (dk_at dksX6_first_0 7 rfl rfl)
theorem dX6_first_10 : decode cX6_first 10 = .ok (.aload_n 0, 1) := dk_42 (dk_at dksX6_first_0 10 rfl rfl)
theorem dX6_first_11 : decode cX6_first 11 = .ok (.ldc 103, 2) := dk_18 103 (dk_at dksX6_first_0 11 rfl rfl)
theorem dX6_first_13 : decode cX6_first 13 = .ok (.iconst 4, 1) := dk_7 (dk_at dksX6_first_0 13 rfl rfl)
theorem dX6_first_14 : decode cX6_first 14 = .ok (.bipush 30, 2) := dk_16 30 (dk_at dksX6_first_0 14 rfl rfl)
theorem dX6_first_16 : decode cX6_first 16 = .ok (.invokevirtual 98, 3) := dk_182 0 98 (dk_at dksX6_first_0 16 rfl rfl)
theorem dX6_first_19 : decode cX6_first 19 = .ok (.putfield 95, 3) := dk_181 0 95 (dk_at dksX6_first_0 19 rfl rfl)
theorem dX6_first_22 : decode cX6_first 22 = .ok (.aload_n 0, 1) := dk_42 (dk_at dksX6_first_0 22 rfl rfl)
theorem dX6_first_23 : decode cX6_first 23 = .ok (.getfield 12, 3) := dk_180 0 12 (dk_at dksX6_first_1 0 rfl rfl)
theorem dX6_first_26 : decode cX6_first 26 = .ok (.aload_n 0, 1) := dk_42 (dk_at dksX6_first_1 3 rfl rfl)
theorem dX6_first_27 : decode cX6_first 27 = .ok (.ldc 104, 2) := dk_18 104 (dk_at dksX6_first_1 4 rfl rfl)
theorem dX6_first_29 : decode cX6_first 29 = .ok (.iconst 0, 1) := dk_3 (dk_at dksX6_first_1 6 rfl rfl)
theorem dX6_first_30 : decode cX6_first 30 = .ok (.bipush 100, 2) := dk_16 100 (dk_at dksX6_first_1 7 rfl rfl)
theorem dX6_first_32 : decode cX6_first 32 = .ok (.invokevirtual 98, 3) := dk_182 0 98 (dk_at dksX6_first_1 9 rfl rfl)
theorem dX6_first_35 : decode cX6_first 35 = .ok (.putfield 106, 3) := dk_181 0 106 (dk_at dksX6_first_1 12 rfl rfl)
theorem dX6_first_38 : decode cX6_first 38 = .ok (.aload_n 0, 1) := dk_42 (dk_at dksX6_first_1 15 rfl rfl)
theorem dX6_first_39 : decode cX6_first 39 = .ok (.getfield 12, 3) := dk_180 0 12 (dk_at dksX6_first_1 16 rfl rfl)
theorem dX6_first_42 : decode cX6_first 42 = .ok (.aload_n 0, 1) := dk_42 (dk_at dksX6_first_1 19 rfl rfl)
theorem dX6_first_43 : decode cX6_first 43 = .ok (.ldc 108, 2) := dk_18 108 (dk_at dksX6_first_1 20 rfl rfl)
theorem dX6_first_45 : decode cX6_first 45 = .ok (.invokevirtual 110, 3) := dk_182 0 110 (dk_at dksX6_first_2 0 rfl rfl)
theorem dX6_first_48 : decode cX6_first 48 = .ok (.putfield 114, 3) := dk_181 0 114 (dk_at dksX6_first_2 3 rfl rfl)
theorem dX6_first_51 : decode cX6_first 51 = .ok (.return_, 1) := dk_177 (dk_at dksX6_first_2 6 rfl rfl)
abbrev cX6_asks : ByteArray := prog_7_method_6_code
def yX6_asks : MethodName := ⟨RX6, "asks", "(Ljava/lang/String;)V"⟩
def dkwX6_asks_0 : List UInt8 := [42, 43, 182, 0, 71, 154, 0, 9, 42, 4, 182, 0, 75, 191, 42, 182, 0, 26, 177]
abbrev dktX6_asks_0 : List UInt8 := dkwX6_asks_0 ++ []
theorem dksX6_asks_0 : cX6_asks.data.toList.drop 0 = dktX6_asks_0 := by decide +kernel
theorem dX6_asks_0 : decode cX6_asks 0 = .ok (.aload_n 0, 1) := dk_42 (dk_at dksX6_asks_0 0 rfl rfl)
theorem dX6_asks_1 : decode cX6_asks 1 = .ok (.aload_n 1, 1) := dk_43 (dk_at dksX6_asks_0 1 rfl rfl)
theorem dX6_asks_2 : decode cX6_asks 2 = .ok (.invokevirtual 71, 3) := dk_182 0 71 (dk_at dksX6_asks_0 2 rfl rfl)
theorem dX6_asks_5 : decode cX6_asks 5 = .ok (.ifCond .ne 9, 3) := dk_154 0 9 (dk_at dksX6_asks_0 5 rfl rfl)
theorem dX6_asks_8 : decode cX6_asks 8 = .ok (.aload_n 0, 1) := dk_42 (dk_at dksX6_asks_0 8 rfl rfl)
theorem dX6_asks_9 : decode cX6_asks 9 = .ok (.iconst 1, 1) := dk_4 (dk_at dksX6_asks_0 9 rfl rfl)
theorem dX6_asks_10 : decode cX6_asks 10 = .ok (.invokevirtual 75, 3) := dk_182 0 75 (dk_at dksX6_asks_0 10 rfl rfl)
theorem dX6_asks_13 : decode cX6_asks 13 = .ok (.athrow, 1) := dk_191 (dk_at dksX6_asks_0 13 rfl rfl)
theorem dX6_asks_14 : decode cX6_asks 14 = .ok (.aload_n 0, 1) := dk_42 (dk_at dksX6_asks_0 14 rfl rfl)
theorem dX6_asks_15 : decode cX6_asks 15 = .ok (.invokevirtual 26, 3) := dk_182 0 26 (dk_at dksX6_asks_0 15 rfl rfl)
theorem dX6_asks_18 : decode cX6_asks 18 = .ok (.return_, 1) := dk_177 (dk_at dksX6_asks_0 18 rfl rfl)
abbrev cX6_is : ByteArray := prog_7_method_5_code
def yX6_is : MethodName := ⟨RX6, "is", "(Ljava/lang/String;)Z"⟩
def dkwX6_is_2 : List UInt8 := [28, 182, 0, 67, 159, 0, 5, 3, 172, 132, 2, 1, 167, 255, 224, 4, 172]
abbrev dktX6_is_2 : List UInt8 := dkwX6_is_2 ++ []
def dkwX6_is_1 : List UInt8 := [3, 172, 3, 61, 28, 43, 182, 0, 61, 162, 0, 30, 42, 180, 0, 18, 42, 180, 0, 40, 28, 96, 51, 43]
abbrev dktX6_is_1 : List UInt8 := dkwX6_is_1 ++ dktX6_is_2
def dkwX6_is_0 : List UInt8 := [42, 180, 0, 46, 4, 160, 0, 19, 42, 180, 0, 29, 42, 180, 0, 40, 100, 43, 182, 0, 61, 159, 0, 5]
abbrev dktX6_is_0 : List UInt8 := dkwX6_is_0 ++ dktX6_is_1
theorem dksX6_is_0 : cX6_is.data.toList.drop 0 = dktX6_is_0 := by decide +kernel
theorem dksX6_is_1 : cX6_is.data.toList.drop 24 = dktX6_is_1 := dk_seg dksX6_is_0 24 rfl rfl
theorem dksX6_is_2 : cX6_is.data.toList.drop 48 = dktX6_is_2 := dk_seg dksX6_is_1 24 rfl rfl
theorem dX6_is_0 : decode cX6_is 0 = .ok (.aload_n 0, 1) := dk_42 (dk_at dksX6_is_0 0 rfl rfl)
theorem dX6_is_1 : decode cX6_is 1 = .ok (.getfield 46, 3) := dk_180 0 46 (dk_at dksX6_is_0 1 rfl rfl)
theorem dX6_is_4 : decode cX6_is 4 = .ok (.iconst 1, 1) := dk_4 (dk_at dksX6_is_0 4 rfl rfl)
theorem dX6_is_5 : decode cX6_is 5 = .ok (.if_icmp .ne 19, 3) := dk_160 0 19 (dk_at dksX6_is_0 5 rfl rfl)
theorem dX6_is_8 : decode cX6_is 8 = .ok (.aload_n 0, 1) := dk_42 (dk_at dksX6_is_0 8 rfl rfl)
theorem dX6_is_9 : decode cX6_is 9 = .ok (.getfield 29, 3) := dk_180 0 29 (dk_at dksX6_is_0 9 rfl rfl)
theorem dX6_is_12 : decode cX6_is 12 = .ok (.aload_n 0, 1) := dk_42 (dk_at dksX6_is_0 12 rfl rfl)
theorem dX6_is_13 : decode cX6_is 13 = .ok (.getfield 40, 3) := dk_180 0 40 (dk_at dksX6_is_0 13 rfl rfl)
theorem dX6_is_16 : decode cX6_is 16 = .ok (.isub, 1) := dk_100 (dk_at dksX6_is_0 16 rfl rfl)
theorem dX6_is_17 : decode cX6_is 17 = .ok (.aload_n 1, 1) := dk_43 (dk_at dksX6_is_0 17 rfl rfl)
theorem dX6_is_18 : decode cX6_is 18 = .ok (.invokevirtual 61, 3) := dk_182 0 61 (dk_at dksX6_is_0 18 rfl rfl)
theorem dX6_is_21 : decode cX6_is 21 = .ok (.if_icmp .eq 5, 3) := dk_159 0 5 (dk_at dksX6_is_0 21 rfl rfl)
theorem dX6_is_24 : decode cX6_is 24 = .ok (.iconst 0, 1) := dk_3 (dk_at dksX6_is_1 0 rfl rfl)
theorem dX6_is_25 : decode cX6_is 25 = .ok (.ireturn, 1) := dk_172 (dk_at dksX6_is_1 1 rfl rfl)
theorem dX6_is_26 : decode cX6_is 26 = .ok (.iconst 0, 1) := dk_3 (dk_at dksX6_is_1 2 rfl rfl)
theorem dX6_is_27 : decode cX6_is 27 = .ok (.istore_n 2, 1) := dk_61 (dk_at dksX6_is_1 3 rfl rfl)
theorem dX6_is_28 : decode cX6_is 28 = .ok (.iload_n 2, 1) := dk_28 (dk_at dksX6_is_1 4 rfl rfl)
theorem dX6_is_29 : decode cX6_is 29 = .ok (.aload_n 1, 1) := dk_43 (dk_at dksX6_is_1 5 rfl rfl)
theorem dX6_is_30 : decode cX6_is 30 = .ok (.invokevirtual 61, 3) := dk_182 0 61 (dk_at dksX6_is_1 6 rfl rfl)
theorem dX6_is_33 : decode cX6_is 33 = .ok (.if_icmp .ge 30, 3) := dk_162 0 30 (dk_at dksX6_is_1 9 rfl rfl)
theorem dX6_is_36 : decode cX6_is 36 = .ok (.aload_n 0, 1) := dk_42 (dk_at dksX6_is_1 12 rfl rfl)
theorem dX6_is_37 : decode cX6_is 37 = .ok (.getfield 18, 3) := dk_180 0 18 (dk_at dksX6_is_1 13 rfl rfl)
theorem dX6_is_40 : decode cX6_is 40 = .ok (.aload_n 0, 1) := dk_42 (dk_at dksX6_is_1 16 rfl rfl)
theorem dX6_is_41 : decode cX6_is 41 = .ok (.getfield 40, 3) := dk_180 0 40 (dk_at dksX6_is_1 17 rfl rfl)
theorem dX6_is_44 : decode cX6_is 44 = .ok (.iload_n 2, 1) := dk_28 (dk_at dksX6_is_1 20 rfl rfl)
theorem dX6_is_45 : decode cX6_is 45 = .ok (.iadd, 1) := dk_96 (dk_at dksX6_is_1 21 rfl rfl)
theorem dX6_is_46 : decode cX6_is 46 = .ok (.baload, 1) := dk_51 (dk_at dksX6_is_1 22 rfl rfl)
theorem dX6_is_47 : decode cX6_is 47 = .ok (.aload_n 1, 1) := dk_43 (dk_at dksX6_is_1 23 rfl rfl)
theorem dX6_is_48 : decode cX6_is 48 = .ok (.iload_n 2, 1) := dk_28 (dk_at dksX6_is_2 0 rfl rfl)
theorem dX6_is_49 : decode cX6_is 49 = .ok (.invokevirtual 67, 3) := dk_182 0 67 (dk_at dksX6_is_2 1 rfl rfl)
theorem dX6_is_52 : decode cX6_is 52 = .ok (.if_icmp .eq 5, 3) := dk_159 0 5 (dk_at dksX6_is_2 4 rfl rfl)
theorem dX6_is_55 : decode cX6_is 55 = .ok (.iconst 0, 1) := dk_3 (dk_at dksX6_is_2 7 rfl rfl)
theorem dX6_is_56 : decode cX6_is 56 = .ok (.ireturn, 1) := dk_172 (dk_at dksX6_is_2 8 rfl rfl)
theorem dX6_is_57 : decode cX6_is 57 = .ok (.iinc 2 1, 3) := dk_132 2 1 (dk_at dksX6_is_2 9 rfl rfl)
theorem dX6_is_60 : decode cX6_is 60 = .ok (.goto (-32), 3) := dk_167 255 224 (dk_at dksX6_is_2 12 rfl rfl)
theorem dX6_is_63 : decode cX6_is 63 = .ok (.iconst 1, 1) := dk_4 (dk_at dksX6_is_2 15 rfl rfl)
theorem dX6_is_64 : decode cX6_is 64 = .ok (.ireturn, 1) := dk_172 (dk_at dksX6_is_2 16 rfl rfl)
abbrev cX6_fault : ByteArray := prog_7_method_4_code
def yX6_fault : MethodName := ⟨RX6, "fault", "(I)LFloodLent$Fault;"⟩
def dkwX6_fault_0 : List UInt8 := [187, 0, 56, 89, 27, 42, 180, 0, 40, 183, 0, 58, 176]
abbrev dktX6_fault_0 : List UInt8 := dkwX6_fault_0 ++ []
theorem dksX6_fault_0 : cX6_fault.data.toList.drop 0 = dktX6_fault_0 := by decide +kernel
theorem dX6_fault_0 : decode cX6_fault 0 = .ok (.new 56, 3) := dk_187 0 56 (dk_at dksX6_fault_0 0 rfl rfl)
theorem dX6_fault_3 : decode cX6_fault 3 = .ok (.dup, 1) := dk_89 (dk_at dksX6_fault_0 3 rfl rfl)
theorem dX6_fault_4 : decode cX6_fault 4 = .ok (.iload_n 1, 1) := dk_27 (dk_at dksX6_fault_0 4 rfl rfl)
theorem dX6_fault_5 : decode cX6_fault 5 = .ok (.aload_n 0, 1) := dk_42 (dk_at dksX6_fault_0 5 rfl rfl)
theorem dX6_fault_6 : decode cX6_fault 6 = .ok (.getfield 40, 3) := dk_180 0 40 (dk_at dksX6_fault_0 6 rfl rfl)
theorem dX6_fault_9 : decode cX6_fault 9 = .ok (.invokespecial 58, 3) := dk_183 0 58 (dk_at dksX6_fault_0 9 rfl rfl)
theorem dX6_fault_12 : decode cX6_fault 12 = .ok (.areturn, 1) := dk_176 (dk_at dksX6_fault_0 12 rfl rfl)
abbrev cX6_number : ByteArray := prog_7_method_8_code
def yX6_number : MethodName := ⟨RX6, "number", "(Ljava/lang/String;II)I"⟩
def dkwX6_number_0 : List UInt8 := [42, 43, 182, 0, 79, 42, 28, 29, 182, 0, 83, 172]
abbrev dktX6_number_0 : List UInt8 := dkwX6_number_0 ++ []
theorem dksX6_number_0 : cX6_number.data.toList.drop 0 = dktX6_number_0 := by decide +kernel
theorem dX6_number_0 : decode cX6_number 0 = .ok (.aload_n 0, 1) := dk_42 (dk_at dksX6_number_0 0 rfl rfl)
theorem dX6_number_1 : decode cX6_number 1 = .ok (.aload_n 1, 1) := dk_43 (dk_at dksX6_number_0 1 rfl rfl)
theorem dX6_number_2 : decode cX6_number 2 = .ok (.invokevirtual 79, 3) := dk_182 0 79 (dk_at dksX6_number_0 2 rfl rfl)
theorem dX6_number_5 : decode cX6_number 5 = .ok (.aload_n 0, 1) := dk_42 (dk_at dksX6_number_0 5 rfl rfl)
theorem dX6_number_6 : decode cX6_number 6 = .ok (.iload_n 2, 1) := dk_28 (dk_at dksX6_number_0 6 rfl rfl)
theorem dX6_number_7 : decode cX6_number 7 = .ok (.iload_n 3, 1) := dk_29 (dk_at dksX6_number_0 7 rfl rfl)
theorem dX6_number_8 : decode cX6_number 8 = .ok (.invokevirtual 83, 3) := dk_182 0 83 (dk_at dksX6_number_0 8 rfl rfl)
theorem dX6_number_11 : decode cX6_number 11 = .ok (.ireturn, 1) := dk_172 (dk_at dksX6_number_0 11 rfl rfl)
abbrev cX6_number_2 : ByteArray := prog_7_method_7_code
def yX6_number_2 : MethodName := ⟨RX6, "number", "(II)I"⟩
def dkwX6_number_2_1 : List UInt8 := [184, 0, 32, 154, 0, 9, 42, 5, 182, 0, 75, 191, 42, 180, 0, 43, 62, 42, 182, 0, 26, 29, 172]
abbrev dktX6_number_2_1 : List UInt8 := dkwX6_number_2_1 ++ []
def dkwX6_number_2_0 : List UInt8 := [42, 180, 0, 46, 5, 159, 0, 9, 42, 4, 182, 0, 75, 191, 42, 180, 0, 43, 133, 27, 133, 28, 133]
abbrev dktX6_number_2_0 : List UInt8 := dkwX6_number_2_0 ++ dktX6_number_2_1
theorem dksX6_number_2_0 : cX6_number_2.data.toList.drop 0 = dktX6_number_2_0 := by decide +kernel
theorem dksX6_number_2_1 : cX6_number_2.data.toList.drop 23 = dktX6_number_2_1 := dk_seg dksX6_number_2_0 23 rfl rfl
theorem dX6_number_2_0 : decode cX6_number_2 0 = .ok (.aload_n 0, 1) := dk_42 (dk_at dksX6_number_2_0 0 rfl rfl)
theorem dX6_number_2_1 : decode cX6_number_2 1 = .ok (.getfield 46, 3) := dk_180 0 46 (dk_at dksX6_number_2_0 1 rfl rfl)
theorem dX6_number_2_4 : decode cX6_number_2 4 = .ok (.iconst 2, 1) := dk_5 (dk_at dksX6_number_2_0 4 rfl rfl)
theorem dX6_number_2_5 : decode cX6_number_2 5 = .ok (.if_icmp .eq 9, 3) := dk_159 0 9 (dk_at dksX6_number_2_0 5 rfl rfl)
theorem dX6_number_2_8 : decode cX6_number_2 8 = .ok (.aload_n 0, 1) := dk_42 (dk_at dksX6_number_2_0 8 rfl rfl)
theorem dX6_number_2_9 : decode cX6_number_2 9 = .ok (.iconst 1, 1) := dk_4 (dk_at dksX6_number_2_0 9 rfl rfl)
theorem dX6_number_2_10 : decode cX6_number_2 10 = .ok (.invokevirtual 75, 3) := dk_182 0 75 (dk_at dksX6_number_2_0 10 rfl rfl)
theorem dX6_number_2_13 : decode cX6_number_2 13 = .ok (.athrow, 1) := dk_191 (dk_at dksX6_number_2_0 13 rfl rfl)
theorem dX6_number_2_14 : decode cX6_number_2 14 = .ok (.aload_n 0, 1) := dk_42 (dk_at dksX6_number_2_0 14 rfl rfl)
theorem dX6_number_2_15 : decode cX6_number_2 15 = .ok (.getfield 43, 3) := dk_180 0 43 (dk_at dksX6_number_2_0 15 rfl rfl)
theorem dX6_number_2_18 : decode cX6_number_2 18 = .ok (.i2l, 1) := dk_133 (dk_at dksX6_number_2_0 18 rfl rfl)
theorem dX6_number_2_19 : decode cX6_number_2 19 = .ok (.iload_n 1, 1) := dk_27 (dk_at dksX6_number_2_0 19 rfl rfl)
theorem dX6_number_2_20 : decode cX6_number_2 20 = .ok (.i2l, 1) := dk_133 (dk_at dksX6_number_2_0 20 rfl rfl)
theorem dX6_number_2_21 : decode cX6_number_2 21 = .ok (.iload_n 2, 1) := dk_28 (dk_at dksX6_number_2_0 21 rfl rfl)
theorem dX6_number_2_22 : decode cX6_number_2 22 = .ok (.i2l, 1) := dk_133 (dk_at dksX6_number_2_0 22 rfl rfl)
theorem dX6_number_2_23 : decode cX6_number_2 23 = .ok (.invokestatic 32, 3) := dk_184 0 32 (dk_at dksX6_number_2_1 0 rfl rfl)
theorem dX6_number_2_26 : decode cX6_number_2 26 = .ok (.ifCond .ne 9, 3) := dk_154 0 9 (dk_at dksX6_number_2_1 3 rfl rfl)
theorem dX6_number_2_29 : decode cX6_number_2 29 = .ok (.aload_n 0, 1) := dk_42 (dk_at dksX6_number_2_1 6 rfl rfl)
theorem dX6_number_2_30 : decode cX6_number_2 30 = .ok (.iconst 2, 1) := dk_5 (dk_at dksX6_number_2_1 7 rfl rfl)
theorem dX6_number_2_31 : decode cX6_number_2 31 = .ok (.invokevirtual 75, 3) := dk_182 0 75 (dk_at dksX6_number_2_1 8 rfl rfl)
theorem dX6_number_2_34 : decode cX6_number_2 34 = .ok (.athrow, 1) := dk_191 (dk_at dksX6_number_2_1 11 rfl rfl)
theorem dX6_number_2_35 : decode cX6_number_2 35 = .ok (.aload_n 0, 1) := dk_42 (dk_at dksX6_number_2_1 12 rfl rfl)
theorem dX6_number_2_36 : decode cX6_number_2 36 = .ok (.getfield 43, 3) := dk_180 0 43 (dk_at dksX6_number_2_1 13 rfl rfl)
theorem dX6_number_2_39 : decode cX6_number_2 39 = .ok (.istore_n 3, 1) := dk_62 (dk_at dksX6_number_2_1 16 rfl rfl)
theorem dX6_number_2_40 : decode cX6_number_2 40 = .ok (.aload_n 0, 1) := dk_42 (dk_at dksX6_number_2_1 17 rfl rfl)
theorem dX6_number_2_41 : decode cX6_number_2 41 = .ok (.invokevirtual 26, 3) := dk_182 0 26 (dk_at dksX6_number_2_1 18 rfl rfl)
theorem dX6_number_2_44 : decode cX6_number_2 44 = .ok (.iload_n 3, 1) := dk_29 (dk_at dksX6_number_2_1 21 rfl rfl)
theorem dX6_number_2_45 : decode cX6_number_2 45 = .ok (.ireturn, 1) := dk_172 (dk_at dksX6_number_2_1 22 rfl rfl)
abbrev cX6_week : ByteArray := prog_7_method_11_code
def yX6_week : MethodName := ⟨RX6, "week", "(Ljava/lang/String;)I"⟩
def dkwX6_week_0 : List UInt8 := [42, 43, 3, 42, 180, 0, 12, 180, 0, 95, 4, 100, 182, 0, 98, 172]
abbrev dktX6_week_0 : List UInt8 := dkwX6_week_0 ++ []
theorem dksX6_week_0 : cX6_week.data.toList.drop 0 = dktX6_week_0 := by decide +kernel
theorem dX6_week_0 : decode cX6_week 0 = .ok (.aload_n 0, 1) := dk_42 (dk_at dksX6_week_0 0 rfl rfl)
theorem dX6_week_1 : decode cX6_week 1 = .ok (.aload_n 1, 1) := dk_43 (dk_at dksX6_week_0 1 rfl rfl)
theorem dX6_week_2 : decode cX6_week 2 = .ok (.iconst 0, 1) := dk_3 (dk_at dksX6_week_0 2 rfl rfl)
theorem dX6_week_3 : decode cX6_week 3 = .ok (.aload_n 0, 1) := dk_42 (dk_at dksX6_week_0 3 rfl rfl)
theorem dX6_week_4 : decode cX6_week 4 = .ok (.getfield 12, 3) := dk_180 0 12 (dk_at dksX6_week_0 4 rfl rfl)
theorem dX6_week_7 : decode cX6_week 7 = .ok (.getfield 95, 3) := dk_180 0 95 (dk_at dksX6_week_0 7 rfl rfl)
theorem dX6_week_10 : decode cX6_week 10 = .ok (.iconst 1, 1) := dk_4 (dk_at dksX6_week_0 10 rfl rfl)
theorem dX6_week_11 : decode cX6_week 11 = .ok (.isub, 1) := dk_100 (dk_at dksX6_week_0 11 rfl rfl)
theorem dX6_week_12 : decode cX6_week 12 = .ok (.invokevirtual 98, 3) := dk_182 0 98 (dk_at dksX6_week_0 12 rfl rfl)
theorem dX6_week_15 : decode cX6_week 15 = .ok (.ireturn, 1) := dk_172 (dk_at dksX6_week_0 15 rfl rfl)
abbrev cX6_line : ByteArray := prog_7_method_17_code
def yX6_line : MethodName := ⟨RX6, "line", "()V"⟩
def dkwX6_line_6 : List UInt8 := [192, 0, 126, 42, 18, 202, 3, 17, 39, 15, 182, 0, 98, 181, 0, 204, 177]
abbrev dktX6_line_6 : List UInt8 := dkwX6_line_6 ++ []
def dkwX6_line_5 : List UInt8 := [18, 196, 182, 0, 79, 42, 182, 0, 140, 60, 42, 180, 0, 12, 180, 0, 86, 27, 185, 0, 198, 2, 0]
abbrev dktX6_line_5 : List UInt8 := dkwX6_line_5 ++ dktX6_line_6
def dkwX6_line_4 : List UInt8 := [60, 42, 180, 0, 12, 180, 0, 192, 27, 42, 18, 195, 3, 16, 99, 182, 0, 98, 79, 167, 0, 43, 42]
abbrev dktX6_line_4 : List UInt8 := dkwX6_line_4 ++ dktX6_line_5
def dkwX6_line_3 : List UInt8 := [182, 0, 71, 153, 0, 43, 42, 182, 0, 26, 42, 3, 42, 180, 0, 12, 180, 0, 95, 4, 100, 182, 0, 83]
abbrev dktX6_line_3 : List UInt8 := dkwX6_line_3 ++ dktX6_line_4
def dkwX6_line_2 : List UInt8 := [167, 0, 108, 42, 18, 186, 182, 0, 71, 153, 0, 10, 42, 182, 0, 188, 167, 0, 92, 42, 18, 190]
abbrev dktX6_line_2 : List UInt8 := dkwX6_line_2 ++ dktX6_line_3
def dkwX6_line_1 : List UInt8 := [153, 0, 10, 42, 182, 0, 180, 167, 0, 124, 42, 18, 182, 182, 0, 71, 153, 0, 10, 42, 182, 0, 184]
abbrev dktX6_line_1 : List UInt8 := dkwX6_line_1 ++ dktX6_line_2
def dkwX6_line_0 : List UInt8 := [42, 18, 175, 182, 0, 71, 153, 0, 10, 42, 182, 0, 176, 167, 0, 140, 42, 18, 178, 182, 0, 71]
abbrev dktX6_line_0 : List UInt8 := dkwX6_line_0 ++ dktX6_line_1
theorem dksX6_line_0 : cX6_line.data.toList.drop 0 = dktX6_line_0 := by decide +kernel
theorem dksX6_line_1 : cX6_line.data.toList.drop 22 = dktX6_line_1 := dk_seg dksX6_line_0 22 rfl rfl
theorem dksX6_line_2 : cX6_line.data.toList.drop 45 = dktX6_line_2 := dk_seg dksX6_line_1 23 rfl rfl
theorem dksX6_line_3 : cX6_line.data.toList.drop 67 = dktX6_line_3 := dk_seg dksX6_line_2 22 rfl rfl
theorem dksX6_line_4 : cX6_line.data.toList.drop 91 = dktX6_line_4 := dk_seg dksX6_line_3 24 rfl rfl
theorem dksX6_line_5 : cX6_line.data.toList.drop 114 = dktX6_line_5 := dk_seg dksX6_line_4 23 rfl rfl
theorem dksX6_line_6 : cX6_line.data.toList.drop 137 = dktX6_line_6 := dk_seg dksX6_line_5 23 rfl rfl
theorem dX6_line_0 : decode cX6_line 0 = .ok (.aload_n 0, 1) := dk_42 (dk_at dksX6_line_0 0 rfl rfl)
theorem dX6_line_1 : decode cX6_line 1 = .ok (.ldc 175, 2) := dk_18 175 (dk_at dksX6_line_0 1 rfl rfl)
theorem dX6_line_3 : decode cX6_line 3 = .ok (.invokevirtual 71, 3) := dk_182 0 71 (dk_at dksX6_line_0 3 rfl rfl)
theorem dX6_line_6 : decode cX6_line 6 = .ok (.ifCond .eq 10, 3) := dk_153 0 10 (dk_at dksX6_line_0 6 rfl rfl)
theorem dX6_line_9 : decode cX6_line 9 = .ok (.aload_n 0, 1) := dk_42 (dk_at dksX6_line_0 9 rfl rfl)
theorem dX6_line_10 : decode cX6_line 10 = .ok (.invokevirtual 176, 3) := dk_182 0 176 (dk_at dksX6_line_0 10 rfl rfl)
theorem dX6_line_13 : decode cX6_line 13 = .ok (.goto 140, 3) := dk_167 0 140 (dk_at dksX6_line_0 13 rfl rfl)
theorem dX6_line_16 : decode cX6_line 16 = .ok (.aload_n 0, 1) := dk_42 (dk_at dksX6_line_0 16 rfl rfl)
theorem dX6_line_17 : decode cX6_line 17 = .ok (.ldc 178, 2) := dk_18 178 (dk_at dksX6_line_0 17 rfl rfl)
theorem dX6_line_19 : decode cX6_line 19 = .ok (.invokevirtual 71, 3) := dk_182 0 71 (dk_at dksX6_line_0 19 rfl rfl)
theorem dX6_line_22 : decode cX6_line 22 = .ok (.ifCond .eq 10, 3) := dk_153 0 10 (dk_at dksX6_line_1 0 rfl rfl)
theorem dX6_line_25 : decode cX6_line 25 = .ok (.aload_n 0, 1) := dk_42 (dk_at dksX6_line_1 3 rfl rfl)
theorem dX6_line_26 : decode cX6_line 26 = .ok (.invokevirtual 180, 3) := dk_182 0 180 (dk_at dksX6_line_1 4 rfl rfl)
theorem dX6_line_29 : decode cX6_line 29 = .ok (.goto 124, 3) := dk_167 0 124 (dk_at dksX6_line_1 7 rfl rfl)
theorem dX6_line_32 : decode cX6_line 32 = .ok (.aload_n 0, 1) := dk_42 (dk_at dksX6_line_1 10 rfl rfl)
theorem dX6_line_33 : decode cX6_line 33 = .ok (.ldc 182, 2) := dk_18 182 (dk_at dksX6_line_1 11 rfl rfl)
theorem dX6_line_35 : decode cX6_line 35 = .ok (.invokevirtual 71, 3) := dk_182 0 71 (dk_at dksX6_line_1 13 rfl rfl)
theorem dX6_line_38 : decode cX6_line 38 = .ok (.ifCond .eq 10, 3) := dk_153 0 10 (dk_at dksX6_line_1 16 rfl rfl)
theorem dX6_line_41 : decode cX6_line 41 = .ok (.aload_n 0, 1) := dk_42 (dk_at dksX6_line_1 19 rfl rfl)
theorem dX6_line_42 : decode cX6_line 42 = .ok (.invokevirtual 184, 3) := dk_182 0 184 (dk_at dksX6_line_1 20 rfl rfl)
theorem dX6_line_45 : decode cX6_line 45 = .ok (.goto 108, 3) := dk_167 0 108 (dk_at dksX6_line_2 0 rfl rfl)
theorem dX6_line_48 : decode cX6_line 48 = .ok (.aload_n 0, 1) := dk_42 (dk_at dksX6_line_2 3 rfl rfl)
theorem dX6_line_49 : decode cX6_line 49 = .ok (.ldc 186, 2) := dk_18 186 (dk_at dksX6_line_2 4 rfl rfl)
theorem dX6_line_51 : decode cX6_line 51 = .ok (.invokevirtual 71, 3) := dk_182 0 71 (dk_at dksX6_line_2 6 rfl rfl)
theorem dX6_line_54 : decode cX6_line 54 = .ok (.ifCond .eq 10, 3) := dk_153 0 10 (dk_at dksX6_line_2 9 rfl rfl)
theorem dX6_line_57 : decode cX6_line 57 = .ok (.aload_n 0, 1) := dk_42 (dk_at dksX6_line_2 12 rfl rfl)
theorem dX6_line_58 : decode cX6_line 58 = .ok (.invokevirtual 188, 3) := dk_182 0 188 (dk_at dksX6_line_2 13 rfl rfl)
theorem dX6_line_61 : decode cX6_line 61 = .ok (.goto 92, 3) := dk_167 0 92 (dk_at dksX6_line_2 16 rfl rfl)
theorem dX6_line_64 : decode cX6_line 64 = .ok (.aload_n 0, 1) := dk_42 (dk_at dksX6_line_2 19 rfl rfl)
theorem dX6_line_65 : decode cX6_line 65 = .ok (.ldc 190, 2) := dk_18 190 (dk_at dksX6_line_2 20 rfl rfl)
theorem dX6_line_67 : decode cX6_line 67 = .ok (.invokevirtual 71, 3) := dk_182 0 71 (dk_at dksX6_line_3 0 rfl rfl)
theorem dX6_line_70 : decode cX6_line 70 = .ok (.ifCond .eq 43, 3) := dk_153 0 43 (dk_at dksX6_line_3 3 rfl rfl)
theorem dX6_line_73 : decode cX6_line 73 = .ok (.aload_n 0, 1) := dk_42 (dk_at dksX6_line_3 6 rfl rfl)
theorem dX6_line_74 : decode cX6_line 74 = .ok (.invokevirtual 26, 3) := dk_182 0 26 (dk_at dksX6_line_3 7 rfl rfl)
theorem dX6_line_77 : decode cX6_line 77 = .ok (.aload_n 0, 1) := dk_42 (dk_at dksX6_line_3 10 rfl rfl)
theorem dX6_line_78 : decode cX6_line 78 = .ok (.iconst 0, 1) := dk_3 (dk_at dksX6_line_3 11 rfl rfl)
theorem dX6_line_79 : decode cX6_line 79 = .ok (.aload_n 0, 1) := dk_42 (dk_at dksX6_line_3 12 rfl rfl)
theorem dX6_line_80 : decode cX6_line 80 = .ok (.getfield 12, 3) := dk_180 0 12 (dk_at dksX6_line_3 13 rfl rfl)
theorem dX6_line_83 : decode cX6_line 83 = .ok (.getfield 95, 3) := dk_180 0 95 (dk_at dksX6_line_3 16 rfl rfl)
theorem dX6_line_86 : decode cX6_line 86 = .ok (.iconst 1, 1) := dk_4 (dk_at dksX6_line_3 19 rfl rfl)
theorem dX6_line_87 : decode cX6_line 87 = .ok (.isub, 1) := dk_100 (dk_at dksX6_line_3 20 rfl rfl)
theorem dX6_line_88 : decode cX6_line 88 = .ok (.invokevirtual 83, 3) := dk_182 0 83 (dk_at dksX6_line_3 21 rfl rfl)
theorem dX6_line_91 : decode cX6_line 91 = .ok (.istore_n 1, 1) := dk_60 (dk_at dksX6_line_4 0 rfl rfl)
theorem dX6_line_92 : decode cX6_line 92 = .ok (.aload_n 0, 1) := dk_42 (dk_at dksX6_line_4 1 rfl rfl)
theorem dX6_line_93 : decode cX6_line 93 = .ok (.getfield 12, 3) := dk_180 0 12 (dk_at dksX6_line_4 2 rfl rfl)
theorem dX6_line_96 : decode cX6_line 96 = .ok (.getfield 192, 3) := dk_180 0 192 (dk_at dksX6_line_4 5 rfl rfl)
theorem dX6_line_99 : decode cX6_line 99 = .ok (.iload_n 1, 1) := dk_27 (dk_at dksX6_line_4 8 rfl rfl)
theorem dX6_line_100 : decode cX6_line 100 = .ok (.aload_n 0, 1) := dk_42 (dk_at dksX6_line_4 9 rfl rfl)
theorem dX6_line_101 : decode cX6_line 101 = .ok (.ldc 195, 2) := dk_18 195 (dk_at dksX6_line_4 10 rfl rfl)
theorem dX6_line_103 : decode cX6_line 103 = .ok (.iconst 0, 1) := dk_3 (dk_at dksX6_line_4 12 rfl rfl)
theorem dX6_line_104 : decode cX6_line 104 = .ok (.bipush 99, 2) := dk_16 99 (dk_at dksX6_line_4 13 rfl rfl)
theorem dX6_line_106 : decode cX6_line 106 = .ok (.invokevirtual 98, 3) := dk_182 0 98 (dk_at dksX6_line_4 15 rfl rfl)
theorem dX6_line_109 : decode cX6_line 109 = .ok (.iastore, 1) := dk_79 (dk_at dksX6_line_4 18 rfl rfl)
theorem dX6_line_110 : decode cX6_line 110 = .ok (.goto 43, 3) := dk_167 0 43 (dk_at dksX6_line_4 19 rfl rfl)
theorem dX6_line_113 : decode cX6_line 113 = .ok (.aload_n 0, 1) := dk_42 (dk_at dksX6_line_4 22 rfl rfl)
theorem dX6_line_114 : decode cX6_line 114 = .ok (.ldc 196, 2) := dk_18 196 (dk_at dksX6_line_5 0 rfl rfl)
theorem dX6_line_116 : decode cX6_line 116 = .ok (.invokevirtual 79, 3) := dk_182 0 79 (dk_at dksX6_line_5 2 rfl rfl)
theorem dX6_line_119 : decode cX6_line 119 = .ok (.aload_n 0, 1) := dk_42 (dk_at dksX6_line_5 5 rfl rfl)
theorem dX6_line_120 : decode cX6_line 120 = .ok (.invokevirtual 140, 3) := dk_182 0 140 (dk_at dksX6_line_5 6 rfl rfl)
theorem dX6_line_123 : decode cX6_line 123 = .ok (.istore_n 1, 1) := dk_60 (dk_at dksX6_line_5 9 rfl rfl)
theorem dX6_line_124 : decode cX6_line 124 = .ok (.aload_n 0, 1) := dk_42 (dk_at dksX6_line_5 10 rfl rfl)
theorem dX6_line_125 : decode cX6_line 125 = .ok (.getfield 12, 3) := dk_180 0 12 (dk_at dksX6_line_5 11 rfl rfl)
theorem dX6_line_128 : decode cX6_line 128 = .ok (.getfield 86, 3) := dk_180 0 86 (dk_at dksX6_line_5 14 rfl rfl)
theorem dX6_line_131 : decode cX6_line 131 = .ok (.iload_n 1, 1) := dk_27 (dk_at dksX6_line_5 17 rfl rfl)
theorem dX6_line_132 : decode cX6_line 132 = .ok (.invokeinterface 198 2, 5) := by decide +kernel
theorem dX6_line_137 : decode cX6_line 137 = .ok (.checkcast 126, 3) := dk_192 0 126 (dk_at dksX6_line_6 0 rfl rfl)
theorem dX6_line_140 : decode cX6_line 140 = .ok (.aload_n 0, 1) := dk_42 (dk_at dksX6_line_6 3 rfl rfl)
theorem dX6_line_141 : decode cX6_line 141 = .ok (.ldc 202, 2) := dk_18 202 (dk_at dksX6_line_6 4 rfl rfl)
theorem dX6_line_143 : decode cX6_line 143 = .ok (.iconst 0, 1) := dk_3 (dk_at dksX6_line_6 6 rfl rfl)
theorem dX6_line_144 : decode cX6_line 144 = .ok (.sipush 9999, 3) := dk_17 39 15 (dk_at dksX6_line_6 7 rfl rfl)
theorem dX6_line_147 : decode cX6_line 147 = .ok (.invokevirtual 98, 3) := dk_182 0 98 (dk_at dksX6_line_6 10 rfl rfl)
theorem dX6_line_150 : decode cX6_line 150 = .ok (.putfield 204, 3) := dk_181 0 204 (dk_at dksX6_line_6 13 rfl rfl)
theorem dX6_line_153 : decode cX6_line 153 = .ok (.return_, 1) := dk_177 (dk_at dksX6_line_6 16 rfl rfl)
abbrev cX6_pond : ByteArray := prog_7_method_13_code
def yX6_pond : MethodName := ⟨RX6, "pond", "()V"⟩
def dkwX6_pond_3 : List UInt8 := [18, 128, 3, 16, 99, 182, 0, 98, 183, 0, 130, 185, 0, 133, 2, 0, 87, 177]
abbrev dktX6_pond_3 : List UInt8 := dkwX6_pond_3 ++ []
def dkwX6_pond_2 : List UInt8 := [18, 124, 3, 16, 99, 182, 0, 98, 62, 42, 180, 0, 12, 180, 0, 86, 187, 0, 126, 89, 27, 28, 29, 42]
abbrev dktX6_pond_2 : List UInt8 := dkwX6_pond_2 ++ dktX6_pond_3
def dkwX6_pond_1 : List UInt8 := [182, 0, 116, 42, 18, 120, 3, 17, 39, 15, 182, 0, 98, 60, 42, 18, 122, 3, 27, 182, 0, 98, 61, 42]
abbrev dktX6_pond_1 : List UInt8 := dkwX6_pond_1 ++ dktX6_pond_2
def dkwX6_pond_0 : List UInt8 := [42, 42, 180, 0, 12, 180, 0, 86, 185, 0, 90, 1, 0, 16, 6, 162, 0, 7, 4, 167, 0, 4, 3]
abbrev dktX6_pond_0 : List UInt8 := dkwX6_pond_0 ++ dktX6_pond_1
theorem dksX6_pond_0 : cX6_pond.data.toList.drop 0 = dktX6_pond_0 := by decide +kernel
theorem dksX6_pond_1 : cX6_pond.data.toList.drop 23 = dktX6_pond_1 := dk_seg dksX6_pond_0 23 rfl rfl
theorem dksX6_pond_2 : cX6_pond.data.toList.drop 47 = dktX6_pond_2 := dk_seg dksX6_pond_1 24 rfl rfl
theorem dksX6_pond_3 : cX6_pond.data.toList.drop 71 = dktX6_pond_3 := dk_seg dksX6_pond_2 24 rfl rfl
theorem dX6_pond_0 : decode cX6_pond 0 = .ok (.aload_n 0, 1) := dk_42 (dk_at dksX6_pond_0 0 rfl rfl)
theorem dX6_pond_1 : decode cX6_pond 1 = .ok (.aload_n 0, 1) := dk_42 (dk_at dksX6_pond_0 1 rfl rfl)
theorem dX6_pond_2 : decode cX6_pond 2 = .ok (.getfield 12, 3) := dk_180 0 12 (dk_at dksX6_pond_0 2 rfl rfl)
theorem dX6_pond_5 : decode cX6_pond 5 = .ok (.getfield 86, 3) := dk_180 0 86 (dk_at dksX6_pond_0 5 rfl rfl)
theorem dX6_pond_8 : decode cX6_pond 8 = .ok (.invokeinterface 90 1, 5) := by decide +kernel
theorem dX6_pond_13 : decode cX6_pond 13 = .ok (.bipush 6, 2) := dk_16 6 (dk_at dksX6_pond_0 13 rfl rfl)
theorem dX6_pond_15 : decode cX6_pond 15 = .ok (.if_icmp .ge 7, 3) := dk_162 0 7 (dk_at dksX6_pond_0 15 rfl rfl)
theorem dX6_pond_18 : decode cX6_pond 18 = .ok (.iconst 1, 1) := dk_4 (dk_at dksX6_pond_0 18 rfl rfl)
theorem dX6_pond_19 : decode cX6_pond 19 = .ok (.goto 4, 3) := dk_167 0 4 (dk_at dksX6_pond_0 19 rfl rfl)
theorem dX6_pond_22 : decode cX6_pond 22 = .ok (.iconst 0, 1) := dk_3 (dk_at dksX6_pond_0 22 rfl rfl)
theorem dX6_pond_23 : decode cX6_pond 23 = .ok (.invokevirtual 116, 3) := dk_182 0 116 (dk_at dksX6_pond_1 0 rfl rfl)
theorem dX6_pond_26 : decode cX6_pond 26 = .ok (.aload_n 0, 1) := dk_42 (dk_at dksX6_pond_1 3 rfl rfl)
theorem dX6_pond_27 : decode cX6_pond 27 = .ok (.ldc 120, 2) := dk_18 120 (dk_at dksX6_pond_1 4 rfl rfl)
theorem dX6_pond_29 : decode cX6_pond 29 = .ok (.iconst 0, 1) := dk_3 (dk_at dksX6_pond_1 6 rfl rfl)
theorem dX6_pond_30 : decode cX6_pond 30 = .ok (.sipush 9999, 3) := dk_17 39 15 (dk_at dksX6_pond_1 7 rfl rfl)
theorem dX6_pond_33 : decode cX6_pond 33 = .ok (.invokevirtual 98, 3) := dk_182 0 98 (dk_at dksX6_pond_1 10 rfl rfl)
theorem dX6_pond_36 : decode cX6_pond 36 = .ok (.istore_n 1, 1) := dk_60 (dk_at dksX6_pond_1 13 rfl rfl)
theorem dX6_pond_37 : decode cX6_pond 37 = .ok (.aload_n 0, 1) := dk_42 (dk_at dksX6_pond_1 14 rfl rfl)
theorem dX6_pond_38 : decode cX6_pond 38 = .ok (.ldc 122, 2) := dk_18 122 (dk_at dksX6_pond_1 15 rfl rfl)
theorem dX6_pond_40 : decode cX6_pond 40 = .ok (.iconst 0, 1) := dk_3 (dk_at dksX6_pond_1 17 rfl rfl)
theorem dX6_pond_41 : decode cX6_pond 41 = .ok (.iload_n 1, 1) := dk_27 (dk_at dksX6_pond_1 18 rfl rfl)
theorem dX6_pond_42 : decode cX6_pond 42 = .ok (.invokevirtual 98, 3) := dk_182 0 98 (dk_at dksX6_pond_1 19 rfl rfl)
theorem dX6_pond_45 : decode cX6_pond 45 = .ok (.istore_n 2, 1) := dk_61 (dk_at dksX6_pond_1 22 rfl rfl)
theorem dX6_pond_46 : decode cX6_pond 46 = .ok (.aload_n 0, 1) := dk_42 (dk_at dksX6_pond_1 23 rfl rfl)
theorem dX6_pond_47 : decode cX6_pond 47 = .ok (.ldc 124, 2) := dk_18 124 (dk_at dksX6_pond_2 0 rfl rfl)
theorem dX6_pond_49 : decode cX6_pond 49 = .ok (.iconst 0, 1) := dk_3 (dk_at dksX6_pond_2 2 rfl rfl)
theorem dX6_pond_50 : decode cX6_pond 50 = .ok (.bipush 99, 2) := dk_16 99 (dk_at dksX6_pond_2 3 rfl rfl)
theorem dX6_pond_52 : decode cX6_pond 52 = .ok (.invokevirtual 98, 3) := dk_182 0 98 (dk_at dksX6_pond_2 5 rfl rfl)
theorem dX6_pond_55 : decode cX6_pond 55 = .ok (.istore_n 3, 1) := dk_62 (dk_at dksX6_pond_2 8 rfl rfl)
theorem dX6_pond_56 : decode cX6_pond 56 = .ok (.aload_n 0, 1) := dk_42 (dk_at dksX6_pond_2 9 rfl rfl)
theorem dX6_pond_57 : decode cX6_pond 57 = .ok (.getfield 12, 3) := dk_180 0 12 (dk_at dksX6_pond_2 10 rfl rfl)
theorem dX6_pond_60 : decode cX6_pond 60 = .ok (.getfield 86, 3) := dk_180 0 86 (dk_at dksX6_pond_2 13 rfl rfl)
theorem dX6_pond_63 : decode cX6_pond 63 = .ok (.new 126, 3) := dk_187 0 126 (dk_at dksX6_pond_2 16 rfl rfl)
theorem dX6_pond_66 : decode cX6_pond 66 = .ok (.dup, 1) := dk_89 (dk_at dksX6_pond_2 19 rfl rfl)
theorem dX6_pond_67 : decode cX6_pond 67 = .ok (.iload_n 1, 1) := dk_27 (dk_at dksX6_pond_2 20 rfl rfl)
theorem dX6_pond_68 : decode cX6_pond 68 = .ok (.iload_n 2, 1) := dk_28 (dk_at dksX6_pond_2 21 rfl rfl)
theorem dX6_pond_69 : decode cX6_pond 69 = .ok (.iload_n 3, 1) := dk_29 (dk_at dksX6_pond_2 22 rfl rfl)
theorem dX6_pond_70 : decode cX6_pond 70 = .ok (.aload_n 0, 1) := dk_42 (dk_at dksX6_pond_2 23 rfl rfl)
theorem dX6_pond_71 : decode cX6_pond 71 = .ok (.ldc 128, 2) := dk_18 128 (dk_at dksX6_pond_3 0 rfl rfl)
theorem dX6_pond_73 : decode cX6_pond 73 = .ok (.iconst 0, 1) := dk_3 (dk_at dksX6_pond_3 2 rfl rfl)
theorem dX6_pond_74 : decode cX6_pond 74 = .ok (.bipush 99, 2) := dk_16 99 (dk_at dksX6_pond_3 3 rfl rfl)
theorem dX6_pond_76 : decode cX6_pond 76 = .ok (.invokevirtual 98, 3) := dk_182 0 98 (dk_at dksX6_pond_3 5 rfl rfl)
theorem dX6_pond_79 : decode cX6_pond 79 = .ok (.invokespecial 130, 3) := dk_183 0 130 (dk_at dksX6_pond_3 8 rfl rfl)
theorem dX6_pond_82 : decode cX6_pond 82 = .ok (.invokeinterface 133 2, 5) := by decide +kernel
theorem dX6_pond_87 : decode cX6_pond 87 = .ok (.pop, 1) := dk_87 (dk_at dksX6_pond_3 16 rfl rfl)
theorem dX6_pond_88 : decode cX6_pond 88 = .ok (.return_, 1) := dk_177 (dk_at dksX6_pond_3 17 rfl rfl)
abbrev cX6_room : ByteArray := prog_7_method_9_code
def yX6_room : MethodName := ⟨RX6, "room", "(Z)V"⟩
def dkwX6_room_0 : List UInt8 := [27, 154, 0, 9, 42, 6, 182, 0, 75, 191, 42, 182, 0, 26, 177]
abbrev dktX6_room_0 : List UInt8 := dkwX6_room_0 ++ []
theorem dksX6_room_0 : cX6_room.data.toList.drop 0 = dktX6_room_0 := by decide +kernel
theorem dX6_room_0 : decode cX6_room 0 = .ok (.iload_n 1, 1) := dk_27 (dk_at dksX6_room_0 0 rfl rfl)
theorem dX6_room_1 : decode cX6_room 1 = .ok (.ifCond .ne 9, 3) := dk_154 0 9 (dk_at dksX6_room_0 1 rfl rfl)
theorem dX6_room_4 : decode cX6_room 4 = .ok (.aload_n 0, 1) := dk_42 (dk_at dksX6_room_0 4 rfl rfl)
theorem dX6_room_5 : decode cX6_room 5 = .ok (.iconst 3, 1) := dk_6 (dk_at dksX6_room_0 5 rfl rfl)
theorem dX6_room_6 : decode cX6_room 6 = .ok (.invokevirtual 75, 3) := dk_182 0 75 (dk_at dksX6_room_0 6 rfl rfl)
theorem dX6_room_9 : decode cX6_room 9 = .ok (.athrow, 1) := dk_191 (dk_at dksX6_room_0 9 rfl rfl)
theorem dX6_room_10 : decode cX6_room 10 = .ok (.aload_n 0, 1) := dk_42 (dk_at dksX6_room_0 10 rfl rfl)
theorem dX6_room_11 : decode cX6_room 11 = .ok (.invokevirtual 26, 3) := dk_182 0 26 (dk_at dksX6_room_0 11 rfl rfl)
theorem dX6_room_14 : decode cX6_room 14 = .ok (.return_, 1) := dk_177 (dk_at dksX6_room_0 14 rfl rfl)
abbrev cX6_crop : ByteArray := prog_7_method_14_code
def yX6_crop : MethodName := ⟨RX6, "crop", "()V"⟩
def dkwX6_crop_4 : List UInt8 := [185, 0, 133, 2, 0, 87, 177]
abbrev dktX6_crop_4 : List UInt8 := dkwX6_crop_4 ++ []
def dkwX6_crop_3 : List UInt8 := [28, 29, 21, 4, 42, 18, 151, 21, 4, 42, 180, 0, 12, 180, 0, 95, 4, 100, 182, 0, 98, 183, 0, 153]
abbrev dktX6_crop_3 : List UInt8 := dkwX6_crop_3 ++ dktX6_crop_4
def dkwX6_crop_2 : List UInt8 := [182, 0, 98, 62, 42, 18, 147, 182, 0, 110, 54, 4, 42, 180, 0, 12, 180, 0, 137, 187, 0, 149, 89, 27]
abbrev dktX6_crop_2 : List UInt8 := dkwX6_crop_2 ++ dktX6_crop_3
def dkwX6_crop_1 : List UInt8 := [182, 0, 116, 42, 182, 0, 140, 60, 42, 18, 143, 4, 16, 99, 182, 0, 98, 61, 42, 18, 145, 3, 16, 99]
abbrev dktX6_crop_1 : List UInt8 := dkwX6_crop_1 ++ dktX6_crop_2
def dkwX6_crop_0 : List UInt8 := [42, 42, 180, 0, 12, 180, 0, 137, 185, 0, 90, 1, 0, 16, 8, 162, 0, 7, 4, 167, 0, 4, 3]
abbrev dktX6_crop_0 : List UInt8 := dkwX6_crop_0 ++ dktX6_crop_1
theorem dksX6_crop_0 : cX6_crop.data.toList.drop 0 = dktX6_crop_0 := by decide +kernel
theorem dksX6_crop_1 : cX6_crop.data.toList.drop 23 = dktX6_crop_1 := dk_seg dksX6_crop_0 23 rfl rfl
theorem dksX6_crop_2 : cX6_crop.data.toList.drop 47 = dktX6_crop_2 := dk_seg dksX6_crop_1 24 rfl rfl
theorem dksX6_crop_3 : cX6_crop.data.toList.drop 71 = dktX6_crop_3 := dk_seg dksX6_crop_2 24 rfl rfl
theorem dksX6_crop_4 : cX6_crop.data.toList.drop 95 = dktX6_crop_4 := dk_seg dksX6_crop_3 24 rfl rfl
theorem dX6_crop_0 : decode cX6_crop 0 = .ok (.aload_n 0, 1) := dk_42 (dk_at dksX6_crop_0 0 rfl rfl)
theorem dX6_crop_1 : decode cX6_crop 1 = .ok (.aload_n 0, 1) := dk_42 (dk_at dksX6_crop_0 1 rfl rfl)
theorem dX6_crop_2 : decode cX6_crop 2 = .ok (.getfield 12, 3) := dk_180 0 12 (dk_at dksX6_crop_0 2 rfl rfl)
theorem dX6_crop_5 : decode cX6_crop 5 = .ok (.getfield 137, 3) := dk_180 0 137 (dk_at dksX6_crop_0 5 rfl rfl)
theorem dX6_crop_8 : decode cX6_crop 8 = .ok (.invokeinterface 90 1, 5) := by decide +kernel
theorem dX6_crop_13 : decode cX6_crop 13 = .ok (.bipush 8, 2) := dk_16 8 (dk_at dksX6_crop_0 13 rfl rfl)
theorem dX6_crop_15 : decode cX6_crop 15 = .ok (.if_icmp .ge 7, 3) := dk_162 0 7 (dk_at dksX6_crop_0 15 rfl rfl)
theorem dX6_crop_18 : decode cX6_crop 18 = .ok (.iconst 1, 1) := dk_4 (dk_at dksX6_crop_0 18 rfl rfl)
theorem dX6_crop_19 : decode cX6_crop 19 = .ok (.goto 4, 3) := dk_167 0 4 (dk_at dksX6_crop_0 19 rfl rfl)
theorem dX6_crop_22 : decode cX6_crop 22 = .ok (.iconst 0, 1) := dk_3 (dk_at dksX6_crop_0 22 rfl rfl)
theorem dX6_crop_23 : decode cX6_crop 23 = .ok (.invokevirtual 116, 3) := dk_182 0 116 (dk_at dksX6_crop_1 0 rfl rfl)
theorem dX6_crop_26 : decode cX6_crop 26 = .ok (.aload_n 0, 1) := dk_42 (dk_at dksX6_crop_1 3 rfl rfl)
theorem dX6_crop_27 : decode cX6_crop 27 = .ok (.invokevirtual 140, 3) := dk_182 0 140 (dk_at dksX6_crop_1 4 rfl rfl)
theorem dX6_crop_30 : decode cX6_crop 30 = .ok (.istore_n 1, 1) := dk_60 (dk_at dksX6_crop_1 7 rfl rfl)
theorem dX6_crop_31 : decode cX6_crop 31 = .ok (.aload_n 0, 1) := dk_42 (dk_at dksX6_crop_1 8 rfl rfl)
theorem dX6_crop_32 : decode cX6_crop 32 = .ok (.ldc 143, 2) := dk_18 143 (dk_at dksX6_crop_1 9 rfl rfl)
theorem dX6_crop_34 : decode cX6_crop 34 = .ok (.iconst 1, 1) := dk_4 (dk_at dksX6_crop_1 11 rfl rfl)
theorem dX6_crop_35 : decode cX6_crop 35 = .ok (.bipush 99, 2) := dk_16 99 (dk_at dksX6_crop_1 12 rfl rfl)
theorem dX6_crop_37 : decode cX6_crop 37 = .ok (.invokevirtual 98, 3) := dk_182 0 98 (dk_at dksX6_crop_1 14 rfl rfl)
theorem dX6_crop_40 : decode cX6_crop 40 = .ok (.istore_n 2, 1) := dk_61 (dk_at dksX6_crop_1 17 rfl rfl)
theorem dX6_crop_41 : decode cX6_crop 41 = .ok (.aload_n 0, 1) := dk_42 (dk_at dksX6_crop_1 18 rfl rfl)
theorem dX6_crop_42 : decode cX6_crop 42 = .ok (.ldc 145, 2) := dk_18 145 (dk_at dksX6_crop_1 19 rfl rfl)
theorem dX6_crop_44 : decode cX6_crop 44 = .ok (.iconst 0, 1) := dk_3 (dk_at dksX6_crop_1 21 rfl rfl)
theorem dX6_crop_45 : decode cX6_crop 45 = .ok (.bipush 99, 2) := dk_16 99 (dk_at dksX6_crop_1 22 rfl rfl)
theorem dX6_crop_47 : decode cX6_crop 47 = .ok (.invokevirtual 98, 3) := dk_182 0 98 (dk_at dksX6_crop_2 0 rfl rfl)
theorem dX6_crop_50 : decode cX6_crop 50 = .ok (.istore_n 3, 1) := dk_62 (dk_at dksX6_crop_2 3 rfl rfl)
theorem dX6_crop_51 : decode cX6_crop 51 = .ok (.aload_n 0, 1) := dk_42 (dk_at dksX6_crop_2 4 rfl rfl)
theorem dX6_crop_52 : decode cX6_crop 52 = .ok (.ldc 147, 2) := dk_18 147 (dk_at dksX6_crop_2 5 rfl rfl)
theorem dX6_crop_54 : decode cX6_crop 54 = .ok (.invokevirtual 110, 3) := dk_182 0 110 (dk_at dksX6_crop_2 7 rfl rfl)
theorem dX6_crop_57 : decode cX6_crop 57 = .ok (.istore 4, 2) := dk_54 4 (dk_at dksX6_crop_2 10 rfl rfl)
theorem dX6_crop_59 : decode cX6_crop 59 = .ok (.aload_n 0, 1) := dk_42 (dk_at dksX6_crop_2 12 rfl rfl)
theorem dX6_crop_60 : decode cX6_crop 60 = .ok (.getfield 12, 3) := dk_180 0 12 (dk_at dksX6_crop_2 13 rfl rfl)
theorem dX6_crop_63 : decode cX6_crop 63 = .ok (.getfield 137, 3) := dk_180 0 137 (dk_at dksX6_crop_2 16 rfl rfl)
theorem dX6_crop_66 : decode cX6_crop 66 = .ok (.new 149, 3) := dk_187 0 149 (dk_at dksX6_crop_2 19 rfl rfl)
theorem dX6_crop_69 : decode cX6_crop 69 = .ok (.dup, 1) := dk_89 (dk_at dksX6_crop_2 22 rfl rfl)
theorem dX6_crop_70 : decode cX6_crop 70 = .ok (.iload_n 1, 1) := dk_27 (dk_at dksX6_crop_2 23 rfl rfl)
theorem dX6_crop_71 : decode cX6_crop 71 = .ok (.iload_n 2, 1) := dk_28 (dk_at dksX6_crop_3 0 rfl rfl)
theorem dX6_crop_72 : decode cX6_crop 72 = .ok (.iload_n 3, 1) := dk_29 (dk_at dksX6_crop_3 1 rfl rfl)
theorem dX6_crop_73 : decode cX6_crop 73 = .ok (.iload 4, 2) := dk_21 4 (dk_at dksX6_crop_3 2 rfl rfl)
theorem dX6_crop_75 : decode cX6_crop 75 = .ok (.aload_n 0, 1) := dk_42 (dk_at dksX6_crop_3 4 rfl rfl)
theorem dX6_crop_76 : decode cX6_crop 76 = .ok (.ldc 151, 2) := dk_18 151 (dk_at dksX6_crop_3 5 rfl rfl)
theorem dX6_crop_78 : decode cX6_crop 78 = .ok (.iload 4, 2) := dk_21 4 (dk_at dksX6_crop_3 7 rfl rfl)
theorem dX6_crop_80 : decode cX6_crop 80 = .ok (.aload_n 0, 1) := dk_42 (dk_at dksX6_crop_3 9 rfl rfl)
theorem dX6_crop_81 : decode cX6_crop 81 = .ok (.getfield 12, 3) := dk_180 0 12 (dk_at dksX6_crop_3 10 rfl rfl)
theorem dX6_crop_84 : decode cX6_crop 84 = .ok (.getfield 95, 3) := dk_180 0 95 (dk_at dksX6_crop_3 13 rfl rfl)
theorem dX6_crop_87 : decode cX6_crop 87 = .ok (.iconst 1, 1) := dk_4 (dk_at dksX6_crop_3 16 rfl rfl)
theorem dX6_crop_88 : decode cX6_crop 88 = .ok (.isub, 1) := dk_100 (dk_at dksX6_crop_3 17 rfl rfl)
theorem dX6_crop_89 : decode cX6_crop 89 = .ok (.invokevirtual 98, 3) := dk_182 0 98 (dk_at dksX6_crop_3 18 rfl rfl)
theorem dX6_crop_92 : decode cX6_crop 92 = .ok (.invokespecial 153, 3) := dk_183 0 153 (dk_at dksX6_crop_3 21 rfl rfl)
theorem dX6_crop_95 : decode cX6_crop 95 = .ok (.invokeinterface 133 2, 5) := by decide +kernel
theorem dX6_crop_100 : decode cX6_crop 100 = .ok (.pop, 1) := dk_87 (dk_at dksX6_crop_4 5 rfl rfl)
theorem dX6_crop_101 : decode cX6_crop 101 = .ok (.return_, 1) := dk_177 (dk_at dksX6_crop_4 6 rfl rfl)
abbrev cX6_village : ByteArray := prog_7_method_10_code
def yX6_village : MethodName := ⟨RX6, "village", "()I"⟩
def dkwX6_village_0 : List UInt8 := [42, 3, 42, 180, 0, 12, 180, 0, 86, 185, 0, 90, 1, 0, 4, 100, 182, 0, 83, 172]
abbrev dktX6_village_0 : List UInt8 := dkwX6_village_0 ++ []
theorem dksX6_village_0 : cX6_village.data.toList.drop 0 = dktX6_village_0 := by decide +kernel
theorem dX6_village_0 : decode cX6_village 0 = .ok (.aload_n 0, 1) := dk_42 (dk_at dksX6_village_0 0 rfl rfl)
theorem dX6_village_1 : decode cX6_village 1 = .ok (.iconst 0, 1) := dk_3 (dk_at dksX6_village_0 1 rfl rfl)
theorem dX6_village_2 : decode cX6_village 2 = .ok (.aload_n 0, 1) := dk_42 (dk_at dksX6_village_0 2 rfl rfl)
theorem dX6_village_3 : decode cX6_village 3 = .ok (.getfield 12, 3) := dk_180 0 12 (dk_at dksX6_village_0 3 rfl rfl)
theorem dX6_village_6 : decode cX6_village 6 = .ok (.getfield 86, 3) := dk_180 0 86 (dk_at dksX6_village_0 6 rfl rfl)
theorem dX6_village_9 : decode cX6_village 9 = .ok (.invokeinterface 90 1, 5) := by decide +kernel
theorem dX6_village_14 : decode cX6_village 14 = .ok (.iconst 1, 1) := dk_4 (dk_at dksX6_village_0 14 rfl rfl)
theorem dX6_village_15 : decode cX6_village 15 = .ok (.isub, 1) := dk_100 (dk_at dksX6_village_0 15 rfl rfl)
theorem dX6_village_16 : decode cX6_village 16 = .ok (.invokevirtual 83, 3) := dk_182 0 83 (dk_at dksX6_village_0 16 rfl rfl)
theorem dX6_village_19 : decode cX6_village 19 = .ok (.ireturn, 1) := dk_172 (dk_at dksX6_village_0 19 rfl rfl)
abbrev cX6_flood : ByteArray := prog_7_method_15_code
def yX6_flood : MethodName := ⟨RX6, "flood", "()V"⟩
def dkwX6_flood_4 : List UInt8 := [177]
abbrev dktX6_flood_4 : List UInt8 := dkwX6_flood_4 ++ []
def dkwX6_flood_3 : List UInt8 := [180, 0, 12, 180, 0, 114, 42, 18, 161, 3, 16, 100, 182, 0, 98, 183, 0, 163, 185, 0, 133, 2, 0, 87]
abbrev dktX6_flood_3 : List UInt8 := dkwX6_flood_3 ++ dktX6_flood_4
def dkwX6_flood_2 : List UInt8 := [17, 39, 15, 182, 0, 98, 61, 42, 180, 0, 12, 180, 0, 156, 187, 0, 159, 89, 2, 2, 28, 27, 42]
abbrev dktX6_flood_2 : List UInt8 := dkwX6_flood_2 ++ dktX6_flood_3
def dkwX6_flood_1 : List UInt8 := [182, 0, 116, 42, 3, 42, 180, 0, 12, 180, 0, 95, 4, 100, 182, 0, 83, 60, 42, 18, 145, 3]
abbrev dktX6_flood_1 : List UInt8 := dkwX6_flood_1 ++ dktX6_flood_2
def dkwX6_flood_0 : List UInt8 := [42, 42, 180, 0, 12, 180, 0, 156, 185, 0, 90, 1, 0, 6, 162, 0, 7, 4, 167, 0, 4, 3]
abbrev dktX6_flood_0 : List UInt8 := dkwX6_flood_0 ++ dktX6_flood_1
theorem dksX6_flood_0 : cX6_flood.data.toList.drop 0 = dktX6_flood_0 := by decide +kernel
theorem dksX6_flood_1 : cX6_flood.data.toList.drop 22 = dktX6_flood_1 := dk_seg dksX6_flood_0 22 rfl rfl
theorem dksX6_flood_2 : cX6_flood.data.toList.drop 44 = dktX6_flood_2 := dk_seg dksX6_flood_1 22 rfl rfl
theorem dksX6_flood_3 : cX6_flood.data.toList.drop 67 = dktX6_flood_3 := dk_seg dksX6_flood_2 23 rfl rfl
theorem dksX6_flood_4 : cX6_flood.data.toList.drop 91 = dktX6_flood_4 := dk_seg dksX6_flood_3 24 rfl rfl
theorem dX6_flood_0 : decode cX6_flood 0 = .ok (.aload_n 0, 1) := dk_42 (dk_at dksX6_flood_0 0 rfl rfl)
theorem dX6_flood_1 : decode cX6_flood 1 = .ok (.aload_n 0, 1) := dk_42 (dk_at dksX6_flood_0 1 rfl rfl)
theorem dX6_flood_2 : decode cX6_flood 2 = .ok (.getfield 12, 3) := dk_180 0 12 (dk_at dksX6_flood_0 2 rfl rfl)
theorem dX6_flood_5 : decode cX6_flood 5 = .ok (.getfield 156, 3) := dk_180 0 156 (dk_at dksX6_flood_0 5 rfl rfl)
theorem dX6_flood_8 : decode cX6_flood 8 = .ok (.invokeinterface 90 1, 5) := by decide +kernel
theorem dX6_flood_13 : decode cX6_flood 13 = .ok (.iconst 3, 1) := dk_6 (dk_at dksX6_flood_0 13 rfl rfl)
theorem dX6_flood_14 : decode cX6_flood 14 = .ok (.if_icmp .ge 7, 3) := dk_162 0 7 (dk_at dksX6_flood_0 14 rfl rfl)
theorem dX6_flood_17 : decode cX6_flood 17 = .ok (.iconst 1, 1) := dk_4 (dk_at dksX6_flood_0 17 rfl rfl)
theorem dX6_flood_18 : decode cX6_flood 18 = .ok (.goto 4, 3) := dk_167 0 4 (dk_at dksX6_flood_0 18 rfl rfl)
theorem dX6_flood_21 : decode cX6_flood 21 = .ok (.iconst 0, 1) := dk_3 (dk_at dksX6_flood_0 21 rfl rfl)
theorem dX6_flood_22 : decode cX6_flood 22 = .ok (.invokevirtual 116, 3) := dk_182 0 116 (dk_at dksX6_flood_1 0 rfl rfl)
theorem dX6_flood_25 : decode cX6_flood 25 = .ok (.aload_n 0, 1) := dk_42 (dk_at dksX6_flood_1 3 rfl rfl)
theorem dX6_flood_26 : decode cX6_flood 26 = .ok (.iconst 0, 1) := dk_3 (dk_at dksX6_flood_1 4 rfl rfl)
theorem dX6_flood_27 : decode cX6_flood 27 = .ok (.aload_n 0, 1) := dk_42 (dk_at dksX6_flood_1 5 rfl rfl)
theorem dX6_flood_28 : decode cX6_flood 28 = .ok (.getfield 12, 3) := dk_180 0 12 (dk_at dksX6_flood_1 6 rfl rfl)
theorem dX6_flood_31 : decode cX6_flood 31 = .ok (.getfield 95, 3) := dk_180 0 95 (dk_at dksX6_flood_1 9 rfl rfl)
theorem dX6_flood_34 : decode cX6_flood 34 = .ok (.iconst 1, 1) := dk_4 (dk_at dksX6_flood_1 12 rfl rfl)
theorem dX6_flood_35 : decode cX6_flood 35 = .ok (.isub, 1) := dk_100 (dk_at dksX6_flood_1 13 rfl rfl)
theorem dX6_flood_36 : decode cX6_flood 36 = .ok (.invokevirtual 83, 3) := dk_182 0 83 (dk_at dksX6_flood_1 14 rfl rfl)
theorem dX6_flood_39 : decode cX6_flood 39 = .ok (.istore_n 1, 1) := dk_60 (dk_at dksX6_flood_1 17 rfl rfl)
theorem dX6_flood_40 : decode cX6_flood 40 = .ok (.aload_n 0, 1) := dk_42 (dk_at dksX6_flood_1 18 rfl rfl)
theorem dX6_flood_41 : decode cX6_flood 41 = .ok (.ldc 145, 2) := dk_18 145 (dk_at dksX6_flood_1 19 rfl rfl)
theorem dX6_flood_43 : decode cX6_flood 43 = .ok (.iconst 0, 1) := dk_3 (dk_at dksX6_flood_1 21 rfl rfl)
theorem dX6_flood_44 : decode cX6_flood 44 = .ok (.sipush 9999, 3) := dk_17 39 15 (dk_at dksX6_flood_2 0 rfl rfl)
theorem dX6_flood_47 : decode cX6_flood 47 = .ok (.invokevirtual 98, 3) := dk_182 0 98 (dk_at dksX6_flood_2 3 rfl rfl)
theorem dX6_flood_50 : decode cX6_flood 50 = .ok (.istore_n 2, 1) := dk_61 (dk_at dksX6_flood_2 6 rfl rfl)
theorem dX6_flood_51 : decode cX6_flood 51 = .ok (.aload_n 0, 1) := dk_42 (dk_at dksX6_flood_2 7 rfl rfl)
theorem dX6_flood_52 : decode cX6_flood 52 = .ok (.getfield 12, 3) := dk_180 0 12 (dk_at dksX6_flood_2 8 rfl rfl)
theorem dX6_flood_55 : decode cX6_flood 55 = .ok (.getfield 156, 3) := dk_180 0 156 (dk_at dksX6_flood_2 11 rfl rfl)
theorem dX6_flood_58 : decode cX6_flood 58 = .ok (.new 159, 3) := dk_187 0 159 (dk_at dksX6_flood_2 14 rfl rfl)
theorem dX6_flood_61 : decode cX6_flood 61 = .ok (.dup, 1) := dk_89 (dk_at dksX6_flood_2 17 rfl rfl)
theorem dX6_flood_62 : decode cX6_flood 62 = .ok (.iconst (-1), 1) := dk_2 (dk_at dksX6_flood_2 18 rfl rfl)
theorem dX6_flood_63 : decode cX6_flood 63 = .ok (.iconst (-1), 1) := dk_2 (dk_at dksX6_flood_2 19 rfl rfl)
theorem dX6_flood_64 : decode cX6_flood 64 = .ok (.iload_n 2, 1) := dk_28 (dk_at dksX6_flood_2 20 rfl rfl)
theorem dX6_flood_65 : decode cX6_flood 65 = .ok (.iload_n 1, 1) := dk_27 (dk_at dksX6_flood_2 21 rfl rfl)
theorem dX6_flood_66 : decode cX6_flood 66 = .ok (.aload_n 0, 1) := dk_42 (dk_at dksX6_flood_2 22 rfl rfl)
theorem dX6_flood_67 : decode cX6_flood 67 = .ok (.getfield 12, 3) := dk_180 0 12 (dk_at dksX6_flood_3 0 rfl rfl)
theorem dX6_flood_70 : decode cX6_flood 70 = .ok (.getfield 114, 3) := dk_180 0 114 (dk_at dksX6_flood_3 3 rfl rfl)
theorem dX6_flood_73 : decode cX6_flood 73 = .ok (.aload_n 0, 1) := dk_42 (dk_at dksX6_flood_3 6 rfl rfl)
theorem dX6_flood_74 : decode cX6_flood 74 = .ok (.ldc 161, 2) := dk_18 161 (dk_at dksX6_flood_3 7 rfl rfl)
theorem dX6_flood_76 : decode cX6_flood 76 = .ok (.iconst 0, 1) := dk_3 (dk_at dksX6_flood_3 9 rfl rfl)
theorem dX6_flood_77 : decode cX6_flood 77 = .ok (.bipush 100, 2) := dk_16 100 (dk_at dksX6_flood_3 10 rfl rfl)
theorem dX6_flood_79 : decode cX6_flood 79 = .ok (.invokevirtual 98, 3) := dk_182 0 98 (dk_at dksX6_flood_3 12 rfl rfl)
theorem dX6_flood_82 : decode cX6_flood 82 = .ok (.invokespecial 163, 3) := dk_183 0 163 (dk_at dksX6_flood_3 15 rfl rfl)
theorem dX6_flood_85 : decode cX6_flood 85 = .ok (.invokeinterface 133 2, 5) := by decide +kernel
theorem dX6_flood_90 : decode cX6_flood 90 = .ok (.pop, 1) := dk_87 (dk_at dksX6_flood_3 23 rfl rfl)
theorem dX6_flood_91 : decode cX6_flood 91 = .ok (.return_, 1) := dk_177 (dk_at dksX6_flood_4 0 rfl rfl)
abbrev cX6_loan : ByteArray := prog_7_method_16_code
def yX6_loan : MethodName := ⟨RX6, "loan", "()V"⟩
def dkwX6_loan_5 : List UInt8 := [100, 182, 0, 98, 16, 100, 183, 0, 163, 185, 0, 133, 2, 0, 87, 177]
abbrev dktX6_loan_5 : List UInt8 := dkwX6_loan_5 ++ []
def dkwX6_loan_4 : List UInt8 := [187, 0, 159, 89, 27, 28, 29, 21, 4, 42, 18, 173, 21, 4, 4, 96, 42, 180, 0, 12, 180, 0, 95, 4]
abbrev dktX6_loan_4 : List UInt8 := dkwX6_loan_4 ++ dktX6_loan_5
def dkwX6_loan_3 : List UInt8 := [17, 39, 15, 182, 0, 98, 62, 42, 18, 171, 182, 0, 110, 54, 4, 42, 180, 0, 12, 180, 0, 166]
abbrev dktX6_loan_3 : List UInt8 := dkwX6_loan_3 ++ dktX6_loan_4
def dkwX6_loan_2 : List UInt8 := [180, 0, 43, 27, 160, 0, 9, 42, 5, 182, 0, 75, 191, 42, 182, 0, 140, 61, 42, 18, 169, 4]
abbrev dktX6_loan_2 : List UInt8 := dkwX6_loan_2 ++ dktX6_loan_3
def dkwX6_loan_1 : List UInt8 := [182, 0, 116, 42, 182, 0, 140, 60, 42, 18, 151, 182, 0, 79, 42, 180, 0, 46, 5, 160, 0, 17, 42]
abbrev dktX6_loan_1 : List UInt8 := dkwX6_loan_1 ++ dktX6_loan_2
def dkwX6_loan_0 : List UInt8 := [42, 42, 180, 0, 12, 180, 0, 166, 185, 0, 90, 1, 0, 16, 8, 162, 0, 7, 4, 167, 0, 4, 3]
abbrev dktX6_loan_0 : List UInt8 := dkwX6_loan_0 ++ dktX6_loan_1
theorem dksX6_loan_0 : cX6_loan.data.toList.drop 0 = dktX6_loan_0 := by decide +kernel
theorem dksX6_loan_1 : cX6_loan.data.toList.drop 23 = dktX6_loan_1 := dk_seg dksX6_loan_0 23 rfl rfl
theorem dksX6_loan_2 : cX6_loan.data.toList.drop 46 = dktX6_loan_2 := dk_seg dksX6_loan_1 23 rfl rfl
theorem dksX6_loan_3 : cX6_loan.data.toList.drop 68 = dktX6_loan_3 := dk_seg dksX6_loan_2 22 rfl rfl
theorem dksX6_loan_4 : cX6_loan.data.toList.drop 90 = dktX6_loan_4 := dk_seg dksX6_loan_3 22 rfl rfl
theorem dksX6_loan_5 : cX6_loan.data.toList.drop 114 = dktX6_loan_5 := dk_seg dksX6_loan_4 24 rfl rfl
theorem dX6_loan_0 : decode cX6_loan 0 = .ok (.aload_n 0, 1) := dk_42 (dk_at dksX6_loan_0 0 rfl rfl)
theorem dX6_loan_1 : decode cX6_loan 1 = .ok (.aload_n 0, 1) := dk_42 (dk_at dksX6_loan_0 1 rfl rfl)
theorem dX6_loan_2 : decode cX6_loan 2 = .ok (.getfield 12, 3) := dk_180 0 12 (dk_at dksX6_loan_0 2 rfl rfl)
theorem dX6_loan_5 : decode cX6_loan 5 = .ok (.getfield 166, 3) := dk_180 0 166 (dk_at dksX6_loan_0 5 rfl rfl)
theorem dX6_loan_8 : decode cX6_loan 8 = .ok (.invokeinterface 90 1, 5) := by decide +kernel
theorem dX6_loan_13 : decode cX6_loan 13 = .ok (.bipush 8, 2) := dk_16 8 (dk_at dksX6_loan_0 13 rfl rfl)
theorem dX6_loan_15 : decode cX6_loan 15 = .ok (.if_icmp .ge 7, 3) := dk_162 0 7 (dk_at dksX6_loan_0 15 rfl rfl)
theorem dX6_loan_18 : decode cX6_loan 18 = .ok (.iconst 1, 1) := dk_4 (dk_at dksX6_loan_0 18 rfl rfl)
theorem dX6_loan_19 : decode cX6_loan 19 = .ok (.goto 4, 3) := dk_167 0 4 (dk_at dksX6_loan_0 19 rfl rfl)
theorem dX6_loan_22 : decode cX6_loan 22 = .ok (.iconst 0, 1) := dk_3 (dk_at dksX6_loan_0 22 rfl rfl)
theorem dX6_loan_23 : decode cX6_loan 23 = .ok (.invokevirtual 116, 3) := dk_182 0 116 (dk_at dksX6_loan_1 0 rfl rfl)
theorem dX6_loan_26 : decode cX6_loan 26 = .ok (.aload_n 0, 1) := dk_42 (dk_at dksX6_loan_1 3 rfl rfl)
theorem dX6_loan_27 : decode cX6_loan 27 = .ok (.invokevirtual 140, 3) := dk_182 0 140 (dk_at dksX6_loan_1 4 rfl rfl)
theorem dX6_loan_30 : decode cX6_loan 30 = .ok (.istore_n 1, 1) := dk_60 (dk_at dksX6_loan_1 7 rfl rfl)
theorem dX6_loan_31 : decode cX6_loan 31 = .ok (.aload_n 0, 1) := dk_42 (dk_at dksX6_loan_1 8 rfl rfl)
theorem dX6_loan_32 : decode cX6_loan 32 = .ok (.ldc 151, 2) := dk_18 151 (dk_at dksX6_loan_1 9 rfl rfl)
theorem dX6_loan_34 : decode cX6_loan 34 = .ok (.invokevirtual 79, 3) := dk_182 0 79 (dk_at dksX6_loan_1 11 rfl rfl)
theorem dX6_loan_37 : decode cX6_loan 37 = .ok (.aload_n 0, 1) := dk_42 (dk_at dksX6_loan_1 14 rfl rfl)
theorem dX6_loan_38 : decode cX6_loan 38 = .ok (.getfield 46, 3) := dk_180 0 46 (dk_at dksX6_loan_1 15 rfl rfl)
theorem dX6_loan_41 : decode cX6_loan 41 = .ok (.iconst 2, 1) := dk_5 (dk_at dksX6_loan_1 18 rfl rfl)
theorem dX6_loan_42 : decode cX6_loan 42 = .ok (.if_icmp .ne 17, 3) := dk_160 0 17 (dk_at dksX6_loan_1 19 rfl rfl)
theorem dX6_loan_45 : decode cX6_loan 45 = .ok (.aload_n 0, 1) := dk_42 (dk_at dksX6_loan_1 22 rfl rfl)
theorem dX6_loan_46 : decode cX6_loan 46 = .ok (.getfield 43, 3) := dk_180 0 43 (dk_at dksX6_loan_2 0 rfl rfl)
theorem dX6_loan_49 : decode cX6_loan 49 = .ok (.iload_n 1, 1) := dk_27 (dk_at dksX6_loan_2 3 rfl rfl)
theorem dX6_loan_50 : decode cX6_loan 50 = .ok (.if_icmp .ne 9, 3) := dk_160 0 9 (dk_at dksX6_loan_2 4 rfl rfl)
theorem dX6_loan_53 : decode cX6_loan 53 = .ok (.aload_n 0, 1) := dk_42 (dk_at dksX6_loan_2 7 rfl rfl)
theorem dX6_loan_54 : decode cX6_loan 54 = .ok (.iconst 2, 1) := dk_5 (dk_at dksX6_loan_2 8 rfl rfl)
theorem dX6_loan_55 : decode cX6_loan 55 = .ok (.invokevirtual 75, 3) := dk_182 0 75 (dk_at dksX6_loan_2 9 rfl rfl)
theorem dX6_loan_58 : decode cX6_loan 58 = .ok (.athrow, 1) := dk_191 (dk_at dksX6_loan_2 12 rfl rfl)
theorem dX6_loan_59 : decode cX6_loan 59 = .ok (.aload_n 0, 1) := dk_42 (dk_at dksX6_loan_2 13 rfl rfl)
theorem dX6_loan_60 : decode cX6_loan 60 = .ok (.invokevirtual 140, 3) := dk_182 0 140 (dk_at dksX6_loan_2 14 rfl rfl)
theorem dX6_loan_63 : decode cX6_loan 63 = .ok (.istore_n 2, 1) := dk_61 (dk_at dksX6_loan_2 17 rfl rfl)
theorem dX6_loan_64 : decode cX6_loan 64 = .ok (.aload_n 0, 1) := dk_42 (dk_at dksX6_loan_2 18 rfl rfl)
theorem dX6_loan_65 : decode cX6_loan 65 = .ok (.ldc 169, 2) := dk_18 169 (dk_at dksX6_loan_2 19 rfl rfl)
theorem dX6_loan_67 : decode cX6_loan 67 = .ok (.iconst 1, 1) := dk_4 (dk_at dksX6_loan_2 21 rfl rfl)
theorem dX6_loan_68 : decode cX6_loan 68 = .ok (.sipush 9999, 3) := dk_17 39 15 (dk_at dksX6_loan_3 0 rfl rfl)
theorem dX6_loan_71 : decode cX6_loan 71 = .ok (.invokevirtual 98, 3) := dk_182 0 98 (dk_at dksX6_loan_3 3 rfl rfl)
theorem dX6_loan_74 : decode cX6_loan 74 = .ok (.istore_n 3, 1) := dk_62 (dk_at dksX6_loan_3 6 rfl rfl)
theorem dX6_loan_75 : decode cX6_loan 75 = .ok (.aload_n 0, 1) := dk_42 (dk_at dksX6_loan_3 7 rfl rfl)
theorem dX6_loan_76 : decode cX6_loan 76 = .ok (.ldc 171, 2) := dk_18 171 (dk_at dksX6_loan_3 8 rfl rfl)
theorem dX6_loan_78 : decode cX6_loan 78 = .ok (.invokevirtual 110, 3) := dk_182 0 110 (dk_at dksX6_loan_3 10 rfl rfl)
theorem dX6_loan_81 : decode cX6_loan 81 = .ok (.istore 4, 2) := dk_54 4 (dk_at dksX6_loan_3 13 rfl rfl)
theorem dX6_loan_83 : decode cX6_loan 83 = .ok (.aload_n 0, 1) := dk_42 (dk_at dksX6_loan_3 15 rfl rfl)
theorem dX6_loan_84 : decode cX6_loan 84 = .ok (.getfield 12, 3) := dk_180 0 12 (dk_at dksX6_loan_3 16 rfl rfl)
theorem dX6_loan_87 : decode cX6_loan 87 = .ok (.getfield 166, 3) := dk_180 0 166 (dk_at dksX6_loan_3 19 rfl rfl)
theorem dX6_loan_90 : decode cX6_loan 90 = .ok (.new 159, 3) := dk_187 0 159 (dk_at dksX6_loan_4 0 rfl rfl)
theorem dX6_loan_93 : decode cX6_loan 93 = .ok (.dup, 1) := dk_89 (dk_at dksX6_loan_4 3 rfl rfl)
theorem dX6_loan_94 : decode cX6_loan 94 = .ok (.iload_n 1, 1) := dk_27 (dk_at dksX6_loan_4 4 rfl rfl)
theorem dX6_loan_95 : decode cX6_loan 95 = .ok (.iload_n 2, 1) := dk_28 (dk_at dksX6_loan_4 5 rfl rfl)
theorem dX6_loan_96 : decode cX6_loan 96 = .ok (.iload_n 3, 1) := dk_29 (dk_at dksX6_loan_4 6 rfl rfl)
theorem dX6_loan_97 : decode cX6_loan 97 = .ok (.iload 4, 2) := dk_21 4 (dk_at dksX6_loan_4 7 rfl rfl)
theorem dX6_loan_99 : decode cX6_loan 99 = .ok (.aload_n 0, 1) := dk_42 (dk_at dksX6_loan_4 9 rfl rfl)
theorem dX6_loan_100 : decode cX6_loan 100 = .ok (.ldc 173, 2) := dk_18 173 (dk_at dksX6_loan_4 10 rfl rfl)
theorem dX6_loan_102 : decode cX6_loan 102 = .ok (.iload 4, 2) := dk_21 4 (dk_at dksX6_loan_4 12 rfl rfl)
theorem dX6_loan_104 : decode cX6_loan 104 = .ok (.iconst 1, 1) := dk_4 (dk_at dksX6_loan_4 14 rfl rfl)
theorem dX6_loan_105 : decode cX6_loan 105 = .ok (.iadd, 1) := dk_96 (dk_at dksX6_loan_4 15 rfl rfl)
theorem dX6_loan_106 : decode cX6_loan 106 = .ok (.aload_n 0, 1) := dk_42 (dk_at dksX6_loan_4 16 rfl rfl)
theorem dX6_loan_107 : decode cX6_loan 107 = .ok (.getfield 12, 3) := dk_180 0 12 (dk_at dksX6_loan_4 17 rfl rfl)
theorem dX6_loan_110 : decode cX6_loan 110 = .ok (.getfield 95, 3) := dk_180 0 95 (dk_at dksX6_loan_4 20 rfl rfl)
theorem dX6_loan_113 : decode cX6_loan 113 = .ok (.iconst 1, 1) := dk_4 (dk_at dksX6_loan_4 23 rfl rfl)
theorem dX6_loan_114 : decode cX6_loan 114 = .ok (.isub, 1) := dk_100 (dk_at dksX6_loan_5 0 rfl rfl)
theorem dX6_loan_115 : decode cX6_loan 115 = .ok (.invokevirtual 98, 3) := dk_182 0 98 (dk_at dksX6_loan_5 1 rfl rfl)
theorem dX6_loan_118 : decode cX6_loan 118 = .ok (.bipush 100, 2) := dk_16 100 (dk_at dksX6_loan_5 4 rfl rfl)
theorem dX6_loan_120 : decode cX6_loan 120 = .ok (.invokespecial 163, 3) := dk_183 0 163 (dk_at dksX6_loan_5 6 rfl rfl)
theorem dX6_loan_123 : decode cX6_loan 123 = .ok (.invokeinterface 133 2, 5) := by decide +kernel
theorem dX6_loan_128 : decode cX6_loan 128 = .ok (.pop, 1) := dk_87 (dk_at dksX6_loan_5 14 rfl rfl)
theorem dX6_loan_129 : decode cX6_loan 129 = .ok (.return_, 1) := dk_177 (dk_at dksX6_loan_5 15 rfl rfl)
theorem q142 : (Jvm.Cond.initialized "FloodLent$Reader") ∈ lw_all := lw_g (lw_at lw_m1 10 rfl) rfl
theorem q420 : (Jvm.Cond.fieldLinkNest "FloodLent$Reader" (86 : Nat) "FloodLent$Plain" "villages" "Ljava/util/List;" "FloodLent") ∈ lw_tbl := lw_at lw_m2 48 rfl
theorem q424 : (Jvm.Cond.fieldLinkNest "FloodLent$Reader" (137 : Nat) "FloodLent$Plain" "crops" "Ljava/util/List;" "FloodLent") ∈ lw_tbl := lw_at lw_m2 52 rfl
theorem q428 : (Jvm.Cond.fieldLinkNest "FloodLent$Reader" (156 : Nat) "FloodLent$Plain" "floods" "Ljava/util/List;" "FloodLent") ∈ lw_tbl := lw_at lw_m2 56 rfl
theorem q432 : (Jvm.Cond.fieldLinkNest "FloodLent$Reader" (166 : Nat) "FloodLent$Plain" "loans" "Ljava/util/List;" "FloodLent") ∈ lw_tbl := lw_at lw_m2 60 rfl
theorem q436 : (Jvm.Cond.fieldLinkNest "FloodLent$Reader" (192 : Nat) "FloodLent$Plain" "sun" "[I" "FloodLent") ∈ lw_tbl := lw_at lw_m2 64 rfl
theorem q438 : (Jvm.Cond.fieldLinkNest "FloodLent$Reader" (95 : Nat) "FloodLent$Plain" "weeks" "I" "FloodLent") ∈ lw_tbl := lw_at lw_m2 66 rfl
theorem q441 : (Jvm.Cond.fieldLinkNest "FloodLent$Reader" (106 : Nat) "FloodLent$Plain" "more" "I" "FloodLent") ∈ lw_tbl := lw_at lw_m2 69 rfl
theorem q443 : (Jvm.Cond.fieldLinkNest "FloodLent$Reader" (114 : Nat) "FloodLent$Plain" "back" "I" "FloodLent") ∈ lw_tbl := lw_at lw_m2 71 rfl
theorem q447 : (Jvm.Cond.fieldLinkNest "FloodLent$Reader" (207 : Nat) "FloodLent$Plain" "lines" "I" "FloodLent") ∈ lw_tbl := lw_at lw_m2 75 rfl
theorem q663 : (Jvm.Cond.instantiable "FloodLent$Reader" (7 : Nat)) ∈ lw_all := lw_g (lw_at lw_m3 51 rfl) rfl
theorem q665 : (Jvm.Cond.instanceMethod ({ cls := "FloodLent$Reader", name := "<init>", desc := "([BI)V" } : Jvm.MethodName)) ∈ lw_all := lw_g (lw_at lw_m3 53 rfl) rfl
theorem q666 : (Jvm.Cond.code ({ cls := "FloodLent$Reader", name := "<init>", desc := "([BI)V" } : Jvm.MethodName) prog_7_method_1_code (3 : Nat) (Option.none : Option Jvm.ClassFile.FieldType)) ∈ lw_all := lw_g (lw_at lw_m3 54 rfl) rfl
theorem q667 : (Jvm.Cond.methodLink "FloodLent$Reader" (3 : Nat) ({ cls := "java/lang/Object", name := "<init>", desc := "()V" } : Jvm.MethodName)) ∈ lw_all := lw_g (lw_at lw_m3 55 rfl) rfl
theorem q668 : (Jvm.Cond.classLink "FloodLent$Reader" (9 : Nat) "FloodLent$Plain") ∈ lw_all := lw_g (lw_at lw_m3 56 rfl) rfl
theorem q669 : (Jvm.Cond.methodLinkNest "FloodLent$Reader" (11 : Nat) ({ cls := "FloodLent$Plain", name := "<init>", desc := "()V" } : Jvm.MethodName) "FloodLent") ∈ lw_tbl := lw_at lw_m3 57 rfl
theorem q670 : (Jvm.Cond.methodLink "FloodLent$Reader" (26 : Nat) ({ cls := "FloodLent$Reader", name := "next", desc := "()V" } : Jvm.MethodName)) ∈ lw_all := lw_g (lw_at lw_m3 58 rfl) rfl
theorem q671 : (Jvm.Cond.privateMethod ({ cls := "FloodLent$Reader", name := "next", desc := "()V" } : Jvm.MethodName)) ∈ lw_tbl := lw_at lw_m3 59 rfl
theorem q672 : (Jvm.Cond.instanceMethod ({ cls := "FloodLent$Reader", name := "next", desc := "()V" } : Jvm.MethodName)) ∈ lw_all := lw_g (lw_at lw_m3 60 rfl) rfl
theorem q673 : (Jvm.Cond.code ({ cls := "FloodLent$Reader", name := "next", desc := "()V" } : Jvm.MethodName) prog_7_method_3_code (1 : Nat) (Option.none : Option Jvm.ClassFile.FieldType)) ∈ lw_all := lw_g (lw_at lw_m3 61 rfl) rfl
theorem q674 : (Jvm.Cond.methodLink "FloodLent$Reader" (36 : Nat) ({ cls := "FloodLent$Reader", name := "isAt", desc := "(II)Z" } : Jvm.MethodName)) ∈ lw_all := lw_g (lw_at lw_m3 62 rfl) rfl
theorem q675 : (Jvm.Cond.privateMethod ({ cls := "FloodLent$Reader", name := "isAt", desc := "(II)Z" } : Jvm.MethodName)) ∈ lw_tbl := lw_at lw_m3 63 rfl
theorem q676 : (Jvm.Cond.instanceMethod ({ cls := "FloodLent$Reader", name := "isAt", desc := "(II)Z" } : Jvm.MethodName)) ∈ lw_all := lw_g (lw_at lw_m3 64 rfl) rfl
theorem q677 : (Jvm.Cond.code ({ cls := "FloodLent$Reader", name := "isAt", desc := "(II)Z" } : Jvm.MethodName) prog_7_method_2_code (3 : Nat) (Option.some Jvm.ClassFile.FieldType.boolean)) ∈ lw_all := lw_g (lw_at lw_m3 65 rfl) rfl
theorem q678 : (Jvm.Cond.methodLinkNest "FloodLent$Reader" (32 : Nat) ({ cls := "FloodLent", name := "in", desc := "(JJJ)Z" } : Jvm.MethodName) "FloodLent") ∈ lw_tbl := lw_at lw_m3 66 rfl
theorem q679 : (Jvm.Cond.constant "FloodLent$Reader" (49 : Nat) (99999 : Int32)) ∈ lw_all := lw_g (lw_at lw_m3 67 rfl) rfl
theorem q680 : (Jvm.Cond.methodLink "FloodLent$Reader" (50 : Nat) ({ cls := "java/lang/Math", name := "min", desc := "(II)I" } : Jvm.MethodName)) ∈ lw_all := lw_g (lw_at lw_m3 68 rfl) rfl
theorem q683 : (Jvm.Cond.fieldLink "FloodLent$Reader" (18 : Nat) "FloodLent$Reader" "text" "[B") ∈ lw_all := lw_g (lw_at lw_m3 71 rfl) rfl
theorem q684 : (Jvm.Cond.fieldLink "FloodLent$Reader" (22 : Nat) "FloodLent$Reader" "many" "I") ∈ lw_all := lw_g (lw_at lw_m3 72 rfl) rfl
theorem q685 : (Jvm.Cond.fieldLink "FloodLent$Reader" (12 : Nat) "FloodLent$Reader" "p" "LFloodLent$Plain;") ∈ lw_all := lw_g (lw_at lw_m3 73 rfl) rfl
theorem q686 : (Jvm.Cond.fieldLink "FloodLent$Reader" (29 : Nat) "FloodLent$Reader" "at" "I") ∈ lw_all := lw_g (lw_at lw_m3 74 rfl) rfl
theorem q687 : (Jvm.Cond.fieldLink "FloodLent$Reader" (40 : Nat) "FloodLent$Reader" "begin" "I") ∈ lw_all := lw_g (lw_at lw_m3 75 rfl) rfl
theorem q688 : (Jvm.Cond.fieldLink "FloodLent$Reader" (46 : Nat) "FloodLent$Reader" "token" "I") ∈ lw_all := lw_g (lw_at lw_m3 76 rfl) rfl
theorem q689 : (Jvm.Cond.fieldLink "FloodLent$Reader" (43 : Nat) "FloodLent$Reader" "value" "I") ∈ lw_all := lw_g (lw_at lw_m3 77 rfl) rfl
theorem q690 : (Jvm.Cond.laysFinal "FloodLent$Reader" "FloodLent$Reader" "text" "[B") ∈ lw_all := lw_g (lw_at lw_m3 78 rfl) rfl
theorem q691 : (Jvm.Cond.soleField "FloodLent$Reader" "text") ∈ lw_all := lw_g (lw_at lw_m3 79 rfl) rfl
theorem q692 : (Jvm.Cond.laysFinal "FloodLent$Reader" "FloodLent$Reader" "many" "I") ∈ lw_all := lw_g (lw_at lw_m3 80 rfl) rfl
theorem q693 : (Jvm.Cond.soleField "FloodLent$Reader" "many") ∈ lw_all := lw_g (lw_at lw_m3 81 rfl) rfl
theorem q694 : (Jvm.Cond.laysFinal "FloodLent$Reader" "FloodLent$Reader" "p" "LFloodLent$Plain;") ∈ lw_all := lw_g (lw_at lw_m3 82 rfl) rfl
theorem q695 : (Jvm.Cond.soleField "FloodLent$Reader" "p") ∈ lw_all := lw_g (lw_at lw_m3 83 rfl) rfl
theorem q696 : (Jvm.Cond.lays "FloodLent$Reader" "FloodLent$Reader" "at" "I") ∈ lw_all := lw_g (lw_at lw_m3 84 rfl) rfl
theorem q697 : (Jvm.Cond.soleField "FloodLent$Reader" "at") ∈ lw_all := lw_g (lw_at lw_m3 85 rfl) rfl
theorem q698 : (Jvm.Cond.lays "FloodLent$Reader" "FloodLent$Reader" "begin" "I") ∈ lw_all := lw_g (lw_at lw_m3 86 rfl) rfl
theorem q699 : (Jvm.Cond.soleField "FloodLent$Reader" "begin") ∈ lw_all := lw_g (lw_at lw_m3 87 rfl) rfl
theorem q700 : (Jvm.Cond.lays "FloodLent$Reader" "FloodLent$Reader" "token" "I") ∈ lw_all := lw_g (lw_at lw_m3 88 rfl) rfl
theorem q701 : (Jvm.Cond.soleField "FloodLent$Reader" "token") ∈ lw_all := lw_g (lw_at lw_m3 89 rfl) rfl
theorem q702 : (Jvm.Cond.lays "FloodLent$Reader" "FloodLent$Reader" "value" "I") ∈ lw_all := lw_g (lw_at lw_m3 90 rfl) rfl
theorem q703 : (Jvm.Cond.soleField "FloodLent$Reader" "value") ∈ lw_all := lw_g (lw_at lw_m3 91 rfl) rfl
theorem q704 : (Jvm.Cond.superclass "FloodLent$Reader" "java/lang/Object") ∈ lw_all := lw_g (lw_at lw_m3 92 rfl) rfl
theorem q706 : (Jvm.Cond.instanceMethod ({ cls := "FloodLent$Reader", name := "reads", desc := "()LFloodLent$Plain;" } : Jvm.MethodName)) ∈ lw_all := lw_g (lw_at lw_m3 94 rfl) rfl
theorem q707 : (Jvm.Cond.selects "FloodLent$Reader" ({ cls := "FloodLent$Reader", name := "reads", desc := "()LFloodLent$Plain;" } : Jvm.MethodName) ({ cls := "FloodLent$Reader", name := "reads", desc := "()LFloodLent$Plain;" } : Jvm.MethodName)) ∈ lw_all := lw_g (lw_at lw_m3 95 rfl) rfl
theorem q708 : (Jvm.Cond.code ({ cls := "FloodLent$Reader", name := "reads", desc := "()LFloodLent$Plain;" } : Jvm.MethodName) prog_7_method_18_code (1 : Nat) (Option.some (Jvm.ClassFile.FieldType.object "FloodLent$Plain"))) ∈ lw_all := lw_g (lw_at lw_m3 96 rfl) rfl
theorem q709 : (Jvm.Cond.methodLink "FloodLent$Reader" (210 : Nat) ({ cls := "FloodLent$Reader", name := "first", desc := "()V" } : Jvm.MethodName)) ∈ lw_all := lw_g (lw_at lw_m3 97 rfl) rfl
theorem q710 : (Jvm.Cond.privateMethod ({ cls := "FloodLent$Reader", name := "first", desc := "()V" } : Jvm.MethodName)) ∈ lw_tbl := lw_at lw_m3 98 rfl
theorem q711 : (Jvm.Cond.instanceMethod ({ cls := "FloodLent$Reader", name := "first", desc := "()V" } : Jvm.MethodName)) ∈ lw_all := lw_g (lw_at lw_m3 99 rfl) rfl
theorem q712 : (Jvm.Cond.code ({ cls := "FloodLent$Reader", name := "first", desc := "()V" } : Jvm.MethodName) prog_7_method_12_code (1 : Nat) (Option.none : Option Jvm.ClassFile.FieldType)) ∈ lw_all := lw_g (lw_at lw_m3 100 rfl) rfl
theorem q713 : (Jvm.Cond.stringRef "FloodLent$Reader" (101 : Nat) "river") ∈ lw_tbl := lw_at lw_m3 101 rfl
theorem q714 : (Jvm.Cond.methodLink "FloodLent$Reader" (79 : Nat) ({ cls := "FloodLent$Reader", name := "asks", desc := "(Ljava/lang/String;)V" } : Jvm.MethodName)) ∈ lw_all := lw_g (lw_at lw_m3 102 rfl) rfl
theorem q715 : (Jvm.Cond.privateMethod ({ cls := "FloodLent$Reader", name := "asks", desc := "(Ljava/lang/String;)V" } : Jvm.MethodName)) ∈ lw_tbl := lw_at lw_m3 103 rfl
theorem q716 : (Jvm.Cond.instanceMethod ({ cls := "FloodLent$Reader", name := "asks", desc := "(Ljava/lang/String;)V" } : Jvm.MethodName)) ∈ lw_all := lw_g (lw_at lw_m3 104 rfl) rfl
theorem q717 : (Jvm.Cond.code ({ cls := "FloodLent$Reader", name := "asks", desc := "(Ljava/lang/String;)V" } : Jvm.MethodName) prog_7_method_6_code (2 : Nat) (Option.none : Option Jvm.ClassFile.FieldType)) ∈ lw_all := lw_g (lw_at lw_m3 105 rfl) rfl
theorem q718 : (Jvm.Cond.methodLink "FloodLent$Reader" (71 : Nat) ({ cls := "FloodLent$Reader", name := "is", desc := "(Ljava/lang/String;)Z" } : Jvm.MethodName)) ∈ lw_all := lw_g (lw_at lw_m3 106 rfl) rfl
theorem q719 : (Jvm.Cond.privateMethod ({ cls := "FloodLent$Reader", name := "is", desc := "(Ljava/lang/String;)Z" } : Jvm.MethodName)) ∈ lw_tbl := lw_at lw_m3 107 rfl
theorem q720 : (Jvm.Cond.instanceMethod ({ cls := "FloodLent$Reader", name := "is", desc := "(Ljava/lang/String;)Z" } : Jvm.MethodName)) ∈ lw_all := lw_g (lw_at lw_m3 108 rfl) rfl
theorem q721 : (Jvm.Cond.code ({ cls := "FloodLent$Reader", name := "is", desc := "(Ljava/lang/String;)Z" } : Jvm.MethodName) prog_7_method_5_code (3 : Nat) (Option.some Jvm.ClassFile.FieldType.boolean)) ∈ lw_all := lw_g (lw_at lw_m3 109 rfl) rfl
theorem q722 : (Jvm.Cond.methodLink "FloodLent$Reader" (61 : Nat) ({ cls := "java/lang/String", name := "length", desc := "()I" } : Jvm.MethodName)) ∈ lw_all := lw_g (lw_at lw_m3 110 rfl) rfl
theorem q732 : (Jvm.Cond.methodLink "FloodLent$Reader" (67 : Nat) ({ cls := "java/lang/String", name := "charAt", desc := "(I)C" } : Jvm.MethodName)) ∈ lw_all := lw_g (lw_at lw_m3 120 rfl) rfl
theorem q770 : (Jvm.Cond.methodLink "FloodLent$Reader" (75 : Nat) ({ cls := "FloodLent$Reader", name := "fault", desc := "(I)LFloodLent$Fault;" } : Jvm.MethodName)) ∈ lw_all := lw_g (lw_at lw_m3 158 rfl) rfl
theorem q771 : (Jvm.Cond.privateMethod ({ cls := "FloodLent$Reader", name := "fault", desc := "(I)LFloodLent$Fault;" } : Jvm.MethodName)) ∈ lw_tbl := lw_at lw_m3 159 rfl
theorem q772 : (Jvm.Cond.instanceMethod ({ cls := "FloodLent$Reader", name := "fault", desc := "(I)LFloodLent$Fault;" } : Jvm.MethodName)) ∈ lw_all := lw_g (lw_at lw_m3 160 rfl) rfl
theorem q773 : (Jvm.Cond.code ({ cls := "FloodLent$Reader", name := "fault", desc := "(I)LFloodLent$Fault;" } : Jvm.MethodName) prog_7_method_4_code (2 : Nat) (Option.some (Jvm.ClassFile.FieldType.object "FloodLent$Fault"))) ∈ lw_all := lw_g (lw_at lw_m3 161 rfl) rfl
theorem q774 : (Jvm.Cond.classLink "FloodLent$Reader" (56 : Nat) "FloodLent$Fault") ∈ lw_all := lw_g (lw_at lw_m3 162 rfl) rfl
theorem q783 : (Jvm.Cond.methodLink "FloodLent$Reader" (58 : Nat) ({ cls := "FloodLent$Fault", name := "<init>", desc := "(II)V" } : Jvm.MethodName)) ∈ lw_all := lw_g (lw_at lw_m3 171 rfl) rfl
theorem q805 : (Jvm.Cond.stringRef "FloodLent$Reader" (103 : Nat) "weeks") ∈ lw_tbl := lw_at lw_m3 193 rfl
theorem q806 : (Jvm.Cond.methodLink "FloodLent$Reader" (98 : Nat) ({ cls := "FloodLent$Reader", name := "number", desc := "(Ljava/lang/String;II)I" } : Jvm.MethodName)) ∈ lw_all := lw_g (lw_at lw_m3 194 rfl) rfl
theorem q807 : (Jvm.Cond.privateMethod ({ cls := "FloodLent$Reader", name := "number", desc := "(Ljava/lang/String;II)I" } : Jvm.MethodName)) ∈ lw_tbl := lw_at lw_m3 195 rfl
theorem q808 : (Jvm.Cond.instanceMethod ({ cls := "FloodLent$Reader", name := "number", desc := "(Ljava/lang/String;II)I" } : Jvm.MethodName)) ∈ lw_all := lw_g (lw_at lw_m3 196 rfl) rfl
theorem q809 : (Jvm.Cond.code ({ cls := "FloodLent$Reader", name := "number", desc := "(Ljava/lang/String;II)I" } : Jvm.MethodName) prog_7_method_8_code (4 : Nat) (Option.some Jvm.ClassFile.FieldType.int)) ∈ lw_all := lw_g (lw_at lw_m3 197 rfl) rfl
theorem q810 : (Jvm.Cond.methodLink "FloodLent$Reader" (83 : Nat) ({ cls := "FloodLent$Reader", name := "number", desc := "(II)I" } : Jvm.MethodName)) ∈ lw_all := lw_g (lw_at lw_m3 198 rfl) rfl
theorem q811 : (Jvm.Cond.privateMethod ({ cls := "FloodLent$Reader", name := "number", desc := "(II)I" } : Jvm.MethodName)) ∈ lw_tbl := lw_at lw_m3 199 rfl
theorem q812 : (Jvm.Cond.instanceMethod ({ cls := "FloodLent$Reader", name := "number", desc := "(II)I" } : Jvm.MethodName)) ∈ lw_all := lw_g (lw_at lw_m3 200 rfl) rfl
theorem q813 : (Jvm.Cond.code ({ cls := "FloodLent$Reader", name := "number", desc := "(II)I" } : Jvm.MethodName) prog_7_method_7_code (4 : Nat) (Option.some Jvm.ClassFile.FieldType.int)) ∈ lw_all := lw_g (lw_at lw_m3 201 rfl) rfl
theorem q814 : (Jvm.Cond.stringRef "FloodLent$Reader" (104 : Nat) "more") ∈ lw_tbl := lw_at lw_m3 202 rfl
theorem q815 : (Jvm.Cond.stringRef "FloodLent$Reader" (108 : Nat) "back") ∈ lw_tbl := lw_at lw_m3 203 rfl
theorem q816 : (Jvm.Cond.methodLink "FloodLent$Reader" (110 : Nat) ({ cls := "FloodLent$Reader", name := "week", desc := "(Ljava/lang/String;)I" } : Jvm.MethodName)) ∈ lw_all := lw_g (lw_at lw_m3 204 rfl) rfl
theorem q817 : (Jvm.Cond.privateMethod ({ cls := "FloodLent$Reader", name := "week", desc := "(Ljava/lang/String;)I" } : Jvm.MethodName)) ∈ lw_tbl := lw_at lw_m3 205 rfl
theorem q818 : (Jvm.Cond.instanceMethod ({ cls := "FloodLent$Reader", name := "week", desc := "(Ljava/lang/String;)I" } : Jvm.MethodName)) ∈ lw_all := lw_g (lw_at lw_m3 206 rfl) rfl
theorem q819 : (Jvm.Cond.code ({ cls := "FloodLent$Reader", name := "week", desc := "(Ljava/lang/String;)I" } : Jvm.MethodName) prog_7_method_11_code (2 : Nat) (Option.some Jvm.ClassFile.FieldType.int)) ∈ lw_all := lw_g (lw_at lw_m3 207 rfl) rfl
theorem q820 : (Jvm.Cond.methodLink "FloodLent$Reader" (213 : Nat) ({ cls := "FloodLent$Reader", name := "line", desc := "()V" } : Jvm.MethodName)) ∈ lw_all := lw_g (lw_at lw_m3 208 rfl) rfl
theorem q821 : (Jvm.Cond.privateMethod ({ cls := "FloodLent$Reader", name := "line", desc := "()V" } : Jvm.MethodName)) ∈ lw_tbl := lw_at lw_m3 209 rfl
theorem q822 : (Jvm.Cond.instanceMethod ({ cls := "FloodLent$Reader", name := "line", desc := "()V" } : Jvm.MethodName)) ∈ lw_all := lw_g (lw_at lw_m3 210 rfl) rfl
theorem q823 : (Jvm.Cond.code ({ cls := "FloodLent$Reader", name := "line", desc := "()V" } : Jvm.MethodName) prog_7_method_17_code (2 : Nat) (Option.none : Option Jvm.ClassFile.FieldType)) ∈ lw_all := lw_g (lw_at lw_m3 211 rfl) rfl
theorem q824 : (Jvm.Cond.stringRef "FloodLent$Reader" (175 : Nat) "village") ∈ lw_tbl := lw_at lw_m3 212 rfl
theorem q825 : (Jvm.Cond.methodLink "FloodLent$Reader" (176 : Nat) ({ cls := "FloodLent$Reader", name := "pond", desc := "()V" } : Jvm.MethodName)) ∈ lw_all := lw_g (lw_at lw_m3 213 rfl) rfl
theorem q826 : (Jvm.Cond.privateMethod ({ cls := "FloodLent$Reader", name := "pond", desc := "()V" } : Jvm.MethodName)) ∈ lw_tbl := lw_at lw_m3 214 rfl
theorem q827 : (Jvm.Cond.instanceMethod ({ cls := "FloodLent$Reader", name := "pond", desc := "()V" } : Jvm.MethodName)) ∈ lw_all := lw_g (lw_at lw_m3 215 rfl) rfl
theorem q828 : (Jvm.Cond.code ({ cls := "FloodLent$Reader", name := "pond", desc := "()V" } : Jvm.MethodName) prog_7_method_13_code (4 : Nat) (Option.none : Option Jvm.ClassFile.FieldType)) ∈ lw_all := lw_g (lw_at lw_m3 216 rfl) rfl
theorem q829 : (Jvm.Cond.interfaceEntry "FloodLent$Reader" (90 : Nat)) ∈ lw_tbl := lw_at lw_m3 217 rfl
theorem q830 : (Jvm.Cond.methodLink "FloodLent$Reader" (90 : Nat) ({ cls := "java/util/List", name := "size", desc := "()I" } : Jvm.MethodName)) ∈ lw_all := lw_g (lw_at lw_m3 218 rfl) rfl
theorem q839 : (Jvm.Cond.methodLink "FloodLent$Reader" (116 : Nat) ({ cls := "FloodLent$Reader", name := "room", desc := "(Z)V" } : Jvm.MethodName)) ∈ lw_all := lw_g (lw_at lw_m3 227 rfl) rfl
theorem q840 : (Jvm.Cond.privateMethod ({ cls := "FloodLent$Reader", name := "room", desc := "(Z)V" } : Jvm.MethodName)) ∈ lw_tbl := lw_at lw_m3 228 rfl
theorem q841 : (Jvm.Cond.instanceMethod ({ cls := "FloodLent$Reader", name := "room", desc := "(Z)V" } : Jvm.MethodName)) ∈ lw_all := lw_g (lw_at lw_m3 229 rfl) rfl
theorem q842 : (Jvm.Cond.code ({ cls := "FloodLent$Reader", name := "room", desc := "(Z)V" } : Jvm.MethodName) prog_7_method_9_code (2 : Nat) (Option.none : Option Jvm.ClassFile.FieldType)) ∈ lw_all := lw_g (lw_at lw_m3 230 rfl) rfl
theorem q843 : (Jvm.Cond.stringRef "FloodLent$Reader" (120 : Nat) "pond") ∈ lw_tbl := lw_at lw_m3 231 rfl
theorem q844 : (Jvm.Cond.stringRef "FloodLent$Reader" (122 : Nat) "water") ∈ lw_tbl := lw_at lw_m3 232 rfl
theorem q845 : (Jvm.Cond.stringRef "FloodLent$Reader" (124 : Nat) "face") ∈ lw_tbl := lw_at lw_m3 233 rfl
theorem q846 : (Jvm.Cond.classLink "FloodLent$Reader" (126 : Nat) "FloodLent$Village") ∈ lw_all := lw_g (lw_at lw_m3 234 rfl) rfl
theorem q848 : (Jvm.Cond.stringRef "FloodLent$Reader" (128 : Nat) "seep") ∈ lw_tbl := lw_at lw_m3 236 rfl
theorem q849 : (Jvm.Cond.methodLink "FloodLent$Reader" (130 : Nat) ({ cls := "FloodLent$Village", name := "<init>", desc := "(IIII)V" } : Jvm.MethodName)) ∈ lw_all := lw_g (lw_at lw_m3 237 rfl) rfl
theorem q865 : (Jvm.Cond.fieldLinkNest "FloodLent$Reader" (204 : Nat) "FloodLent$Village" "cost" "I" "FloodLent") ∈ lw_tbl := lw_at lw_m4 13 rfl
theorem q878 : (Jvm.Cond.interfaceEntry "FloodLent$Reader" (133 : Nat)) ∈ lw_tbl := lw_at lw_m4 26 rfl
theorem q879 : (Jvm.Cond.methodLink "FloodLent$Reader" (133 : Nat) ({ cls := "java/util/List", name := "add", desc := "(Ljava/lang/Object;)Z" } : Jvm.MethodName)) ∈ lw_all := lw_g (lw_at lw_m4 27 rfl) rfl
theorem q923 : (Jvm.Cond.selects "FloodLent$Reader" ({ cls := "java/lang/Object", name := "getClass", desc := "()Ljava/lang/Class;" } : Jvm.MethodName) ({ cls := "java/lang/Object", name := "getClass", desc := "()Ljava/lang/Class;" } : Jvm.MethodName)) ∈ lw_all := lw_g (lw_at lw_m4 71 rfl) rfl
theorem q943 : (Jvm.Cond.stringRef "FloodLent$Reader" (178 : Nat) "crop") ∈ lw_tbl := lw_at lw_m4 91 rfl
theorem q944 : (Jvm.Cond.methodLink "FloodLent$Reader" (180 : Nat) ({ cls := "FloodLent$Reader", name := "crop", desc := "()V" } : Jvm.MethodName)) ∈ lw_all := lw_g (lw_at lw_m4 92 rfl) rfl
theorem q945 : (Jvm.Cond.privateMethod ({ cls := "FloodLent$Reader", name := "crop", desc := "()V" } : Jvm.MethodName)) ∈ lw_tbl := lw_at lw_m4 93 rfl
theorem q946 : (Jvm.Cond.instanceMethod ({ cls := "FloodLent$Reader", name := "crop", desc := "()V" } : Jvm.MethodName)) ∈ lw_all := lw_g (lw_at lw_m4 94 rfl) rfl
theorem q947 : (Jvm.Cond.code ({ cls := "FloodLent$Reader", name := "crop", desc := "()V" } : Jvm.MethodName) prog_7_method_14_code (5 : Nat) (Option.none : Option Jvm.ClassFile.FieldType)) ∈ lw_all := lw_g (lw_at lw_m4 95 rfl) rfl
theorem q948 : (Jvm.Cond.methodLink "FloodLent$Reader" (140 : Nat) ({ cls := "FloodLent$Reader", name := "village", desc := "()I" } : Jvm.MethodName)) ∈ lw_all := lw_g (lw_at lw_m4 96 rfl) rfl
theorem q949 : (Jvm.Cond.privateMethod ({ cls := "FloodLent$Reader", name := "village", desc := "()I" } : Jvm.MethodName)) ∈ lw_tbl := lw_at lw_m4 97 rfl
theorem q950 : (Jvm.Cond.instanceMethod ({ cls := "FloodLent$Reader", name := "village", desc := "()I" } : Jvm.MethodName)) ∈ lw_all := lw_g (lw_at lw_m4 98 rfl) rfl
theorem q951 : (Jvm.Cond.code ({ cls := "FloodLent$Reader", name := "village", desc := "()I" } : Jvm.MethodName) prog_7_method_10_code (1 : Nat) (Option.some Jvm.ClassFile.FieldType.int)) ∈ lw_all := lw_g (lw_at lw_m4 99 rfl) rfl
theorem q952 : (Jvm.Cond.stringRef "FloodLent$Reader" (143 : Nat) "drinks") ∈ lw_tbl := lw_at lw_m4 100 rfl
theorem q953 : (Jvm.Cond.stringRef "FloodLent$Reader" (145 : Nat) "brings") ∈ lw_tbl := lw_at lw_m4 101 rfl
theorem q954 : (Jvm.Cond.stringRef "FloodLent$Reader" (147 : Nat) "from") ∈ lw_tbl := lw_at lw_m4 102 rfl
theorem q955 : (Jvm.Cond.classLink "FloodLent$Reader" (149 : Nat) "FloodLent$Crop") ∈ lw_all := lw_g (lw_at lw_m4 103 rfl) rfl
theorem q957 : (Jvm.Cond.stringRef "FloodLent$Reader" (151 : Nat) "to") ∈ lw_tbl := lw_at lw_m4 105 rfl
theorem q958 : (Jvm.Cond.methodLink "FloodLent$Reader" (153 : Nat) ({ cls := "FloodLent$Crop", name := "<init>", desc := "(IIIII)V" } : Jvm.MethodName)) ∈ lw_all := lw_g (lw_at lw_m4 106 rfl) rfl
theorem q985 : (Jvm.Cond.stringRef "FloodLent$Reader" (182 : Nat) "flood") ∈ lw_tbl := lw_at lw_m4 133 rfl
theorem q986 : (Jvm.Cond.methodLink "FloodLent$Reader" (184 : Nat) ({ cls := "FloodLent$Reader", name := "flood", desc := "()V" } : Jvm.MethodName)) ∈ lw_all := lw_g (lw_at lw_m4 134 rfl) rfl
theorem q987 : (Jvm.Cond.privateMethod ({ cls := "FloodLent$Reader", name := "flood", desc := "()V" } : Jvm.MethodName)) ∈ lw_tbl := lw_at lw_m4 135 rfl
theorem q988 : (Jvm.Cond.instanceMethod ({ cls := "FloodLent$Reader", name := "flood", desc := "()V" } : Jvm.MethodName)) ∈ lw_all := lw_g (lw_at lw_m4 136 rfl) rfl
theorem q989 : (Jvm.Cond.code ({ cls := "FloodLent$Reader", name := "flood", desc := "()V" } : Jvm.MethodName) prog_7_method_15_code (3 : Nat) (Option.none : Option Jvm.ClassFile.FieldType)) ∈ lw_all := lw_g (lw_at lw_m4 137 rfl) rfl
theorem q990 : (Jvm.Cond.classLink "FloodLent$Reader" (159 : Nat) "FloodLent$Lent") ∈ lw_all := lw_g (lw_at lw_m4 138 rfl) rfl
theorem q992 : (Jvm.Cond.stringRef "FloodLent$Reader" (161 : Nat) "odds") ∈ lw_tbl := lw_at lw_m4 140 rfl
theorem q993 : (Jvm.Cond.methodLink "FloodLent$Reader" (163 : Nat) ({ cls := "FloodLent$Lent", name := "<init>", desc := "(IIIIII)V" } : Jvm.MethodName)) ∈ lw_all := lw_g (lw_at lw_m4 141 rfl) rfl
theorem q1023 : (Jvm.Cond.stringRef "FloodLent$Reader" (186 : Nat) "loan") ∈ lw_tbl := lw_at lw_m4 171 rfl
theorem q1024 : (Jvm.Cond.methodLink "FloodLent$Reader" (188 : Nat) ({ cls := "FloodLent$Reader", name := "loan", desc := "()V" } : Jvm.MethodName)) ∈ lw_all := lw_g (lw_at lw_m4 172 rfl) rfl
theorem q1025 : (Jvm.Cond.privateMethod ({ cls := "FloodLent$Reader", name := "loan", desc := "()V" } : Jvm.MethodName)) ∈ lw_tbl := lw_at lw_m4 173 rfl
theorem q1026 : (Jvm.Cond.instanceMethod ({ cls := "FloodLent$Reader", name := "loan", desc := "()V" } : Jvm.MethodName)) ∈ lw_all := lw_g (lw_at lw_m4 174 rfl) rfl
theorem q1027 : (Jvm.Cond.code ({ cls := "FloodLent$Reader", name := "loan", desc := "()V" } : Jvm.MethodName) prog_7_method_16_code (5 : Nat) (Option.none : Option Jvm.ClassFile.FieldType)) ∈ lw_all := lw_g (lw_at lw_m4 175 rfl) rfl
theorem q1028 : (Jvm.Cond.stringRef "FloodLent$Reader" (169 : Nat) "of") ∈ lw_tbl := lw_at lw_m4 176 rfl
theorem q1029 : (Jvm.Cond.stringRef "FloodLent$Reader" (171 : Nat) "on") ∈ lw_tbl := lw_at lw_m4 177 rfl
theorem q1030 : (Jvm.Cond.stringRef "FloodLent$Reader" (173 : Nat) "till") ∈ lw_tbl := lw_at lw_m4 178 rfl
theorem q1031 : (Jvm.Cond.stringRef "FloodLent$Reader" (190 : Nat) "sun") ∈ lw_tbl := lw_at lw_m4 179 rfl
theorem q1032 : (Jvm.Cond.stringRef "FloodLent$Reader" (195 : Nat) "is") ∈ lw_tbl := lw_at lw_m4 180 rfl
theorem q1033 : (Jvm.Cond.stringRef "FloodLent$Reader" (196 : Nat) "canal") ∈ lw_tbl := lw_at lw_m4 181 rfl
theorem q1034 : (Jvm.Cond.interfaceEntry "FloodLent$Reader" (198 : Nat)) ∈ lw_tbl := lw_at lw_m4 182 rfl
theorem q1035 : (Jvm.Cond.methodLink "FloodLent$Reader" (198 : Nat) ({ cls := "java/util/List", name := "get", desc := "(I)Ljava/lang/Object;" } : Jvm.MethodName)) ∈ lw_all := lw_g (lw_at lw_m4 183 rfl) rfl
theorem q1051 : (Jvm.Cond.stringRef "FloodLent$Reader" (202 : Nat) "costs") ∈ lw_tbl := lw_at lw_m4 199 rfl
theorem q2121 : (Jvm.Cond.castable "FloodLent$Reader" "java/lang/Object") ∈ lw_tbl := lw_at lw_m9 69 rfl
theorem in_X6 : ∀ w ∈ wsX60, w ∈ lw_all := lw_in wsX60 [690, 692, 694, 696, 698, 700, 702] (by decide +kernel) (by decide +kernel)

/-! FloodLent$Fault -/
set_option maxRecDepth 100000
def RX7 : String := "FloodLent$Fault"
def TX7 : u_T := fun k => match k with
  | 0 => ("java/lang/Throwable", "cause", "Ljava/lang/Throwable;", false)
  | 1 => ("java/lang/Throwable", "stackTrace", "[Ljava/lang/StackTraceElement;", false)
  | 2 => ("java/lang/Throwable", "suppressedExceptions", "Ljava/util/List;", false)
  | 3 => ("java/lang/Throwable", "detailMessage", "Ljava/lang/String;", false)
  | 4 => ("java/lang/Throwable", "backtrace", "Ljava/lang/Object;", false)
  | 5 => ("java/lang/Throwable", "depth", "I", false)
  | 6 => ("FloodLent$Fault", "kind", "I", true)
  | _ => ("FloodLent$Fault", "place", "I", true)
def tyX7 : Nat → FieldType := fun k => match k with
  | 0 => .object "java/lang/Throwable"
  | 1 => .array (.object "java/lang/StackTraceElement")
  | 2 => .object "java/util/List"
  | 3 => .object "java/lang/String"
  | 4 => .object "java/lang/Object"
  | 5 => .int
  | 6 => .int
  | _ => .int
abbrev wsX70 : List Cond := u_ws RX7 TX7 8
theorem nmX7 : ∀ a, a < 8 → ∀ b, b < 8 → a ≠ b → (TX7 a).2.1 ≠ (TX7 b).2.1 := by decide +kernel
theorem tyX7_ok : ∀ k, k < 8 → parseFieldDescriptor (TX7 k).2.2.1 = some (tyX7 k) := by decide +kernel
abbrev cX7_init : ByteArray := prog_3_method_1_code
def yX7_init : MethodName := ⟨RX7, "<init>", "(II)V"⟩
def dkwX7_init_0 : List UInt8 := [42, 1, 1, 3, 3, 183, 0, 1, 42, 27, 181, 0, 7, 42, 28, 181, 0, 13, 177]
abbrev dktX7_init_0 : List UInt8 := dkwX7_init_0 ++ []
theorem dksX7_init_0 : cX7_init.data.toList.drop 0 = dktX7_init_0 := by decide +kernel
theorem dX7_init_0 : decode cX7_init 0 = .ok (.aload_n 0, 1) := dk_42 (dk_at dksX7_init_0 0 rfl rfl)
theorem dX7_init_1 : decode cX7_init 1 = .ok (.aconst_null, 1) := dk_1 (dk_at dksX7_init_0 1 rfl rfl)
theorem dX7_init_2 : decode cX7_init 2 = .ok (.aconst_null, 1) := dk_1 (dk_at dksX7_init_0 2 rfl rfl)
theorem dX7_init_3 : decode cX7_init 3 = .ok (.iconst 0, 1) := dk_3 (dk_at dksX7_init_0 3 rfl rfl)
theorem dX7_init_4 : decode cX7_init 4 = .ok (.iconst 0, 1) := dk_3 (dk_at dksX7_init_0 4 rfl rfl)
theorem dX7_init_5 : decode cX7_init 5 = .ok (.invokespecial 1, 3) := dk_183 0 1 (dk_at dksX7_init_0 5 rfl rfl)
theorem dX7_init_8 : decode cX7_init 8 = .ok (.aload_n 0, 1) := dk_42 (dk_at dksX7_init_0 8 rfl rfl)
theorem dX7_init_9 : decode cX7_init 9 = .ok (.iload_n 1, 1) := dk_27 (dk_at dksX7_init_0 9 rfl rfl)
theorem dX7_init_10 : decode cX7_init 10 = .ok (.putfield 7, 3) := dk_181 0 7 (dk_at dksX7_init_0 10 rfl rfl)
theorem dX7_init_13 : decode cX7_init 13 = .ok (.aload_n 0, 1) := dk_42 (dk_at dksX7_init_0 13 rfl rfl)
theorem dX7_init_14 : decode cX7_init 14 = .ok (.iload_n 2, 1) := dk_28 (dk_at dksX7_init_0 14 rfl rfl)
theorem dX7_init_15 : decode cX7_init 15 = .ok (.putfield 13, 3) := dk_181 0 13 (dk_at dksX7_init_0 15 rfl rfl)
theorem dX7_init_18 : decode cX7_init 18 = .ok (.return_, 1) := dk_177 (dk_at dksX7_init_0 18 rfl rfl)
theorem q151 : (Jvm.Cond.initialized "FloodLent$Fault") ∈ lw_all := lw_g (lw_at lw_m1 19 rfl) rfl
theorem q204 : (Jvm.Cond.selects "FloodLent$Fault" ({ cls := "java/lang/Throwable", name := "fillInStackTrace", desc := "()Ljava/lang/Throwable;" } : Jvm.MethodName) ({ cls := "java/lang/Throwable", name := "fillInStackTrace", desc := "()Ljava/lang/Throwable;" } : Jvm.MethodName)) ∈ lw_all := lw_g (lw_at lw_m1 72 rfl) rfl
theorem q775 : (Jvm.Cond.instantiable "FloodLent$Fault" (8 : Nat)) ∈ lw_all := lw_g (lw_at lw_m3 163 rfl) rfl
theorem q776 : (Jvm.Cond.castable "FloodLent$Fault" "FloodLent$Fault") ∈ lw_tbl := lw_at lw_m3 164 rfl
theorem q777 : (Jvm.Cond.selects "FloodLent$Fault" ({ cls := "java/lang/Throwable", name := "fillInStackTrace", desc := "(I)Ljava/lang/Throwable;" } : Jvm.MethodName) ({ cls := "java/lang/Throwable", name := "fillInStackTrace", desc := "(I)Ljava/lang/Throwable;" } : Jvm.MethodName)) ∈ lw_all := lw_g (lw_at lw_m3 165 rfl) rfl
theorem q778 : (Jvm.Cond.lays "FloodLent$Fault" "java/lang/Throwable" "cause" "Ljava/lang/Throwable;") ∈ lw_all := lw_g (lw_at lw_m3 166 rfl) rfl
theorem q779 : (Jvm.Cond.lays "FloodLent$Fault" "java/lang/Throwable" "stackTrace" "[Ljava/lang/StackTraceElement;") ∈ lw_all := lw_g (lw_at lw_m3 167 rfl) rfl
theorem q780 : (Jvm.Cond.lays "FloodLent$Fault" "java/lang/Throwable" "suppressedExceptions" "Ljava/util/List;") ∈ lw_all := lw_g (lw_at lw_m3 168 rfl) rfl
theorem q781 : (Jvm.Cond.lays "FloodLent$Fault" "java/lang/Throwable" "detailMessage" "Ljava/lang/String;") ∈ lw_all := lw_g (lw_at lw_m3 169 rfl) rfl
theorem q782 : (Jvm.Cond.lays "FloodLent$Fault" "java/lang/Throwable" "backtrace" "Ljava/lang/Object;") ∈ lw_all := lw_g (lw_at lw_m3 170 rfl) rfl
theorem q784 : (Jvm.Cond.instanceMethod ({ cls := "FloodLent$Fault", name := "<init>", desc := "(II)V" } : Jvm.MethodName)) ∈ lw_all := lw_g (lw_at lw_m3 172 rfl) rfl
theorem q785 : (Jvm.Cond.code ({ cls := "FloodLent$Fault", name := "<init>", desc := "(II)V" } : Jvm.MethodName) prog_3_method_1_code (3 : Nat) (Option.none : Option Jvm.ClassFile.FieldType)) ∈ lw_all := lw_g (lw_at lw_m3 173 rfl) rfl
theorem q786 : (Jvm.Cond.methodLink "FloodLent$Fault" (1 : Nat) ({ cls := "java/lang/RuntimeException", name := "<init>", desc := "(Ljava/lang/String;Ljava/lang/Throwable;ZZ)V" } : Jvm.MethodName)) ∈ lw_all := lw_g (lw_at lw_m3 174 rfl) rfl
theorem q795 : (Jvm.Cond.fieldLink "FloodLent$Fault" (7 : Nat) "FloodLent$Fault" "kind" "I") ∈ lw_all := lw_g (lw_at lw_m3 183 rfl) rfl
theorem q797 : (Jvm.Cond.fieldLink "FloodLent$Fault" (13 : Nat) "FloodLent$Fault" "place" "I") ∈ lw_all := lw_g (lw_at lw_m3 185 rfl) rfl
theorem q799 : (Jvm.Cond.laysFinal "FloodLent$Fault" "FloodLent$Fault" "kind" "I") ∈ lw_all := lw_g (lw_at lw_m3 187 rfl) rfl
theorem q800 : (Jvm.Cond.soleField "FloodLent$Fault" "kind") ∈ lw_all := lw_g (lw_at lw_m3 188 rfl) rfl
theorem q801 : (Jvm.Cond.laysFinal "FloodLent$Fault" "FloodLent$Fault" "place" "I") ∈ lw_all := lw_g (lw_at lw_m3 189 rfl) rfl
theorem q802 : (Jvm.Cond.soleField "FloodLent$Fault" "place") ∈ lw_all := lw_g (lw_at lw_m3 190 rfl) rfl
theorem q803 : (Jvm.Cond.lays "FloodLent$Fault" "java/lang/Throwable" "depth" "I") ∈ lw_all := lw_g (lw_at lw_m3 191 rfl) rfl
theorem q804 : (Jvm.Cond.superclass "FloodLent$Fault" "java/lang/RuntimeException") ∈ lw_all := lw_g (lw_at lw_m3 192 rfl) rfl
theorem q919 : (Jvm.Cond.selects "FloodLent$Fault" ({ cls := "java/lang/Object", name := "getClass", desc := "()Ljava/lang/Class;" } : Jvm.MethodName) ({ cls := "java/lang/Object", name := "getClass", desc := "()Ljava/lang/Class;" } : Jvm.MethodName)) ∈ lw_all := lw_g (lw_at lw_m4 67 rfl) rfl
theorem q2122 : (Jvm.Cond.castable "FloodLent$Fault" "java/lang/Object") ∈ lw_tbl := lw_at lw_m9 70 rfl
theorem in_X7 : ∀ w ∈ wsX70, w ∈ lw_all := lw_in wsX70 [778, 779, 780, 781, 782, 803, 799, 801] (by decide +kernel) (by decide +kernel)

/-! FloodLent$Village -/
set_option maxRecDepth 100000
def RX8 : String := "FloodLent$Village"
def TX8 : u_T := fun k => match k with
  | 0 => ("FloodLent$Village", "pond", "I", true)
  | 1 => ("FloodLent$Village", "water", "I", true)
  | 2 => ("FloodLent$Village", "face", "I", true)
  | 3 => ("FloodLent$Village", "seep", "I", true)
  | _ => ("FloodLent$Village", "cost", "I", false)
def tyX8 : Nat → FieldType := fun k => match k with
  | 0 => .int
  | 1 => .int
  | 2 => .int
  | 3 => .int
  | _ => .int
abbrev wsX80 : List Cond := u_ws RX8 TX8 5
theorem nmX8 : ∀ a, a < 5 → ∀ b, b < 5 → a ≠ b → (TX8 a).2.1 ≠ (TX8 b).2.1 := by decide +kernel
theorem tyX8_ok : ∀ k, k < 5 → parseFieldDescriptor (TX8 k).2.2.1 = some (tyX8 k) := by decide +kernel
abbrev cX8_init : ByteArray := prog_10_method_1_code
def yX8_init : MethodName := ⟨RX8, "<init>", "(IIII)V"⟩
def dkwX8_init_1 : List UInt8 := [181, 0, 19, 177]
abbrev dktX8_init_1 : List UInt8 := dkwX8_init_1 ++ []
def dkwX8_init_0 : List UInt8 := [42, 183, 0, 1, 42, 27, 181, 0, 7, 42, 28, 181, 0, 13, 42, 29, 181, 0, 16, 42, 21, 4]
abbrev dktX8_init_0 : List UInt8 := dkwX8_init_0 ++ dktX8_init_1
theorem dksX8_init_0 : cX8_init.data.toList.drop 0 = dktX8_init_0 := by decide +kernel
theorem dksX8_init_1 : cX8_init.data.toList.drop 22 = dktX8_init_1 := dk_seg dksX8_init_0 22 rfl rfl
theorem dX8_init_0 : decode cX8_init 0 = .ok (.aload_n 0, 1) := dk_42 (dk_at dksX8_init_0 0 rfl rfl)
theorem dX8_init_1 : decode cX8_init 1 = .ok (.invokespecial 1, 3) := dk_183 0 1 (dk_at dksX8_init_0 1 rfl rfl)
theorem dX8_init_4 : decode cX8_init 4 = .ok (.aload_n 0, 1) := dk_42 (dk_at dksX8_init_0 4 rfl rfl)
theorem dX8_init_5 : decode cX8_init 5 = .ok (.iload_n 1, 1) := dk_27 (dk_at dksX8_init_0 5 rfl rfl)
theorem dX8_init_6 : decode cX8_init 6 = .ok (.putfield 7, 3) := dk_181 0 7 (dk_at dksX8_init_0 6 rfl rfl)
theorem dX8_init_9 : decode cX8_init 9 = .ok (.aload_n 0, 1) := dk_42 (dk_at dksX8_init_0 9 rfl rfl)
theorem dX8_init_10 : decode cX8_init 10 = .ok (.iload_n 2, 1) := dk_28 (dk_at dksX8_init_0 10 rfl rfl)
theorem dX8_init_11 : decode cX8_init 11 = .ok (.putfield 13, 3) := dk_181 0 13 (dk_at dksX8_init_0 11 rfl rfl)
theorem dX8_init_14 : decode cX8_init 14 = .ok (.aload_n 0, 1) := dk_42 (dk_at dksX8_init_0 14 rfl rfl)
theorem dX8_init_15 : decode cX8_init 15 = .ok (.iload_n 3, 1) := dk_29 (dk_at dksX8_init_0 15 rfl rfl)
theorem dX8_init_16 : decode cX8_init 16 = .ok (.putfield 16, 3) := dk_181 0 16 (dk_at dksX8_init_0 16 rfl rfl)
theorem dX8_init_19 : decode cX8_init 19 = .ok (.aload_n 0, 1) := dk_42 (dk_at dksX8_init_0 19 rfl rfl)
theorem dX8_init_20 : decode cX8_init 20 = .ok (.iload 4, 2) := dk_21 4 (dk_at dksX8_init_0 20 rfl rfl)
theorem dX8_init_22 : decode cX8_init 22 = .ok (.putfield 19, 3) := dk_181 0 19 (dk_at dksX8_init_1 0 rfl rfl)
theorem dX8_init_25 : decode cX8_init 25 = .ok (.return_, 1) := dk_177 (dk_at dksX8_init_1 3 rfl rfl)
theorem q152 : (Jvm.Cond.initialized "FloodLent$Village") ∈ lw_all := lw_g (lw_at lw_m1 20 rfl) rfl
theorem q847 : (Jvm.Cond.instantiable "FloodLent$Village" (5 : Nat)) ∈ lw_all := lw_g (lw_at lw_m3 235 rfl) rfl
theorem q850 : (Jvm.Cond.instanceMethod ({ cls := "FloodLent$Village", name := "<init>", desc := "(IIII)V" } : Jvm.MethodName)) ∈ lw_all := lw_g (lw_at lw_m3 238 rfl) rfl
theorem q851 : (Jvm.Cond.code ({ cls := "FloodLent$Village", name := "<init>", desc := "(IIII)V" } : Jvm.MethodName) prog_10_method_1_code (5 : Nat) (Option.none : Option Jvm.ClassFile.FieldType)) ∈ lw_all := lw_g (lw_at lw_m3 239 rfl) rfl
theorem q852 : (Jvm.Cond.methodLink "FloodLent$Village" (1 : Nat) ({ cls := "java/lang/Object", name := "<init>", desc := "()V" } : Jvm.MethodName)) ∈ lw_all := lw_g (lw_at lw_m4 0 rfl) rfl
theorem q853 : (Jvm.Cond.fieldLink "FloodLent$Village" (7 : Nat) "FloodLent$Village" "pond" "I") ∈ lw_all := lw_g (lw_at lw_m4 1 rfl) rfl
theorem q856 : (Jvm.Cond.fieldLink "FloodLent$Village" (13 : Nat) "FloodLent$Village" "water" "I") ∈ lw_all := lw_g (lw_at lw_m4 4 rfl) rfl
theorem q859 : (Jvm.Cond.fieldLink "FloodLent$Village" (16 : Nat) "FloodLent$Village" "face" "I") ∈ lw_all := lw_g (lw_at lw_m4 7 rfl) rfl
theorem q862 : (Jvm.Cond.fieldLink "FloodLent$Village" (19 : Nat) "FloodLent$Village" "seep" "I") ∈ lw_all := lw_g (lw_at lw_m4 10 rfl) rfl
theorem q867 : (Jvm.Cond.laysFinal "FloodLent$Village" "FloodLent$Village" "pond" "I") ∈ lw_all := lw_g (lw_at lw_m4 15 rfl) rfl
theorem q868 : (Jvm.Cond.soleField "FloodLent$Village" "pond") ∈ lw_all := lw_g (lw_at lw_m4 16 rfl) rfl
theorem q869 : (Jvm.Cond.laysFinal "FloodLent$Village" "FloodLent$Village" "water" "I") ∈ lw_all := lw_g (lw_at lw_m4 17 rfl) rfl
theorem q870 : (Jvm.Cond.soleField "FloodLent$Village" "water") ∈ lw_all := lw_g (lw_at lw_m4 18 rfl) rfl
theorem q871 : (Jvm.Cond.laysFinal "FloodLent$Village" "FloodLent$Village" "face" "I") ∈ lw_all := lw_g (lw_at lw_m4 19 rfl) rfl
theorem q872 : (Jvm.Cond.soleField "FloodLent$Village" "face") ∈ lw_all := lw_g (lw_at lw_m4 20 rfl) rfl
theorem q873 : (Jvm.Cond.laysFinal "FloodLent$Village" "FloodLent$Village" "seep" "I") ∈ lw_all := lw_g (lw_at lw_m4 21 rfl) rfl
theorem q874 : (Jvm.Cond.soleField "FloodLent$Village" "seep") ∈ lw_all := lw_g (lw_at lw_m4 22 rfl) rfl
theorem q875 : (Jvm.Cond.lays "FloodLent$Village" "FloodLent$Village" "cost" "I") ∈ lw_all := lw_g (lw_at lw_m4 23 rfl) rfl
theorem q876 : (Jvm.Cond.soleField "FloodLent$Village" "cost") ∈ lw_all := lw_g (lw_at lw_m4 24 rfl) rfl
theorem q877 : (Jvm.Cond.superclass "FloodLent$Village" "java/lang/Object") ∈ lw_all := lw_g (lw_at lw_m4 25 rfl) rfl
theorem q926 : (Jvm.Cond.selects "FloodLent$Village" ({ cls := "java/lang/Object", name := "getClass", desc := "()Ljava/lang/Class;" } : Jvm.MethodName) ({ cls := "java/lang/Object", name := "getClass", desc := "()Ljava/lang/Class;" } : Jvm.MethodName)) ∈ lw_all := lw_g (lw_at lw_m4 74 rfl) rfl
theorem q2123 : (Jvm.Cond.castable "FloodLent$Village" "java/lang/Object") ∈ lw_tbl := lw_at lw_m9 71 rfl
theorem in_X8 : ∀ w ∈ wsX80, w ∈ lw_all := lw_in wsX80 [867, 869, 871, 873, 875] (by decide +kernel) (by decide +kernel)

/-! FloodLent$Crop -/
set_option maxRecDepth 100000
def RX9 : String := "FloodLent$Crop"
def TX9 : u_T := fun k => match k with
  | 0 => ("FloodLent$Crop", "village", "I", true)
  | 1 => ("FloodLent$Crop", "drinks", "I", true)
  | 2 => ("FloodLent$Crop", "brings", "I", true)
  | 3 => ("FloodLent$Crop", "from", "I", true)
  | _ => ("FloodLent$Crop", "to", "I", true)
def tyX9 : Nat → FieldType := fun k => match k with
  | 0 => .int
  | 1 => .int
  | 2 => .int
  | 3 => .int
  | _ => .int
abbrev wsX90 : List Cond := u_ws RX9 TX9 5
theorem nmX9 : ∀ a, a < 5 → ∀ b, b < 5 → a ≠ b → (TX9 a).2.1 ≠ (TX9 b).2.1 := by decide +kernel
theorem tyX9_ok : ∀ k, k < 5 → parseFieldDescriptor (TX9 k).2.2.1 = some (tyX9 k) := by decide +kernel
abbrev cX9_init : ByteArray := prog_2_method_1_code
def yX9_init : MethodName := ⟨RX9, "<init>", "(IIIII)V"⟩
def dkwX9_init_1 : List UInt8 := [181, 0, 19, 42, 21, 5, 181, 0, 22, 177]
abbrev dktX9_init_1 : List UInt8 := dkwX9_init_1 ++ []
def dkwX9_init_0 : List UInt8 := [42, 183, 0, 1, 42, 27, 181, 0, 7, 42, 28, 181, 0, 13, 42, 29, 181, 0, 16, 42, 21, 4]
abbrev dktX9_init_0 : List UInt8 := dkwX9_init_0 ++ dktX9_init_1
theorem dksX9_init_0 : cX9_init.data.toList.drop 0 = dktX9_init_0 := by decide +kernel
theorem dksX9_init_1 : cX9_init.data.toList.drop 22 = dktX9_init_1 := dk_seg dksX9_init_0 22 rfl rfl
theorem dX9_init_0 : decode cX9_init 0 = .ok (.aload_n 0, 1) := dk_42 (dk_at dksX9_init_0 0 rfl rfl)
theorem dX9_init_1 : decode cX9_init 1 = .ok (.invokespecial 1, 3) := dk_183 0 1 (dk_at dksX9_init_0 1 rfl rfl)
theorem dX9_init_4 : decode cX9_init 4 = .ok (.aload_n 0, 1) := dk_42 (dk_at dksX9_init_0 4 rfl rfl)
theorem dX9_init_5 : decode cX9_init 5 = .ok (.iload_n 1, 1) := dk_27 (dk_at dksX9_init_0 5 rfl rfl)
theorem dX9_init_6 : decode cX9_init 6 = .ok (.putfield 7, 3) := dk_181 0 7 (dk_at dksX9_init_0 6 rfl rfl)
theorem dX9_init_9 : decode cX9_init 9 = .ok (.aload_n 0, 1) := dk_42 (dk_at dksX9_init_0 9 rfl rfl)
theorem dX9_init_10 : decode cX9_init 10 = .ok (.iload_n 2, 1) := dk_28 (dk_at dksX9_init_0 10 rfl rfl)
theorem dX9_init_11 : decode cX9_init 11 = .ok (.putfield 13, 3) := dk_181 0 13 (dk_at dksX9_init_0 11 rfl rfl)
theorem dX9_init_14 : decode cX9_init 14 = .ok (.aload_n 0, 1) := dk_42 (dk_at dksX9_init_0 14 rfl rfl)
theorem dX9_init_15 : decode cX9_init 15 = .ok (.iload_n 3, 1) := dk_29 (dk_at dksX9_init_0 15 rfl rfl)
theorem dX9_init_16 : decode cX9_init 16 = .ok (.putfield 16, 3) := dk_181 0 16 (dk_at dksX9_init_0 16 rfl rfl)
theorem dX9_init_19 : decode cX9_init 19 = .ok (.aload_n 0, 1) := dk_42 (dk_at dksX9_init_0 19 rfl rfl)
theorem dX9_init_20 : decode cX9_init 20 = .ok (.iload 4, 2) := dk_21 4 (dk_at dksX9_init_0 20 rfl rfl)
theorem dX9_init_22 : decode cX9_init 22 = .ok (.putfield 19, 3) := dk_181 0 19 (dk_at dksX9_init_1 0 rfl rfl)
theorem dX9_init_25 : decode cX9_init 25 = .ok (.aload_n 0, 1) := dk_42 (dk_at dksX9_init_1 3 rfl rfl)
theorem dX9_init_26 : decode cX9_init 26 = .ok (.iload 5, 2) := dk_21 5 (dk_at dksX9_init_1 4 rfl rfl)
theorem dX9_init_28 : decode cX9_init 28 = .ok (.putfield 22, 3) := dk_181 0 22 (dk_at dksX9_init_1 6 rfl rfl)
theorem dX9_init_31 : decode cX9_init 31 = .ok (.return_, 1) := dk_177 (dk_at dksX9_init_1 9 rfl rfl)
theorem q156 : (Jvm.Cond.initialized "FloodLent$Crop") ∈ lw_all := lw_g (lw_at lw_m1 24 rfl) rfl
theorem q918 : (Jvm.Cond.selects "FloodLent$Crop" ({ cls := "java/lang/Object", name := "getClass", desc := "()Ljava/lang/Class;" } : Jvm.MethodName) ({ cls := "java/lang/Object", name := "getClass", desc := "()Ljava/lang/Class;" } : Jvm.MethodName)) ∈ lw_all := lw_g (lw_at lw_m4 66 rfl) rfl
theorem q956 : (Jvm.Cond.instantiable "FloodLent$Crop" (5 : Nat)) ∈ lw_all := lw_g (lw_at lw_m4 104 rfl) rfl
theorem q959 : (Jvm.Cond.instanceMethod ({ cls := "FloodLent$Crop", name := "<init>", desc := "(IIIII)V" } : Jvm.MethodName)) ∈ lw_all := lw_g (lw_at lw_m4 107 rfl) rfl
theorem q960 : (Jvm.Cond.code ({ cls := "FloodLent$Crop", name := "<init>", desc := "(IIIII)V" } : Jvm.MethodName) prog_2_method_1_code (6 : Nat) (Option.none : Option Jvm.ClassFile.FieldType)) ∈ lw_all := lw_g (lw_at lw_m4 108 rfl) rfl
theorem q961 : (Jvm.Cond.methodLink "FloodLent$Crop" (1 : Nat) ({ cls := "java/lang/Object", name := "<init>", desc := "()V" } : Jvm.MethodName)) ∈ lw_all := lw_g (lw_at lw_m4 109 rfl) rfl
theorem q962 : (Jvm.Cond.fieldLink "FloodLent$Crop" (7 : Nat) "FloodLent$Crop" "village" "I") ∈ lw_all := lw_g (lw_at lw_m4 110 rfl) rfl
theorem q965 : (Jvm.Cond.fieldLink "FloodLent$Crop" (13 : Nat) "FloodLent$Crop" "drinks" "I") ∈ lw_all := lw_g (lw_at lw_m4 113 rfl) rfl
theorem q968 : (Jvm.Cond.fieldLink "FloodLent$Crop" (16 : Nat) "FloodLent$Crop" "brings" "I") ∈ lw_all := lw_g (lw_at lw_m4 116 rfl) rfl
theorem q970 : (Jvm.Cond.fieldLink "FloodLent$Crop" (19 : Nat) "FloodLent$Crop" "from" "I") ∈ lw_all := lw_g (lw_at lw_m4 118 rfl) rfl
theorem q972 : (Jvm.Cond.fieldLink "FloodLent$Crop" (22 : Nat) "FloodLent$Crop" "to" "I") ∈ lw_all := lw_g (lw_at lw_m4 120 rfl) rfl
theorem q974 : (Jvm.Cond.laysFinal "FloodLent$Crop" "FloodLent$Crop" "village" "I") ∈ lw_all := lw_g (lw_at lw_m4 122 rfl) rfl
theorem q975 : (Jvm.Cond.soleField "FloodLent$Crop" "village") ∈ lw_all := lw_g (lw_at lw_m4 123 rfl) rfl
theorem q976 : (Jvm.Cond.laysFinal "FloodLent$Crop" "FloodLent$Crop" "drinks" "I") ∈ lw_all := lw_g (lw_at lw_m4 124 rfl) rfl
theorem q977 : (Jvm.Cond.soleField "FloodLent$Crop" "drinks") ∈ lw_all := lw_g (lw_at lw_m4 125 rfl) rfl
theorem q978 : (Jvm.Cond.laysFinal "FloodLent$Crop" "FloodLent$Crop" "brings" "I") ∈ lw_all := lw_g (lw_at lw_m4 126 rfl) rfl
theorem q979 : (Jvm.Cond.soleField "FloodLent$Crop" "brings") ∈ lw_all := lw_g (lw_at lw_m4 127 rfl) rfl
theorem q980 : (Jvm.Cond.laysFinal "FloodLent$Crop" "FloodLent$Crop" "from" "I") ∈ lw_all := lw_g (lw_at lw_m4 128 rfl) rfl
theorem q981 : (Jvm.Cond.soleField "FloodLent$Crop" "from") ∈ lw_all := lw_g (lw_at lw_m4 129 rfl) rfl
theorem q982 : (Jvm.Cond.laysFinal "FloodLent$Crop" "FloodLent$Crop" "to" "I") ∈ lw_all := lw_g (lw_at lw_m4 130 rfl) rfl
theorem q983 : (Jvm.Cond.soleField "FloodLent$Crop" "to") ∈ lw_all := lw_g (lw_at lw_m4 131 rfl) rfl
theorem q984 : (Jvm.Cond.superclass "FloodLent$Crop" "java/lang/Object") ∈ lw_all := lw_g (lw_at lw_m4 132 rfl) rfl
theorem q2124 : (Jvm.Cond.castable "FloodLent$Crop" "java/lang/Object") ∈ lw_tbl := lw_at lw_m9 72 rfl
theorem in_X9 : ∀ w ∈ wsX90, w ∈ lw_all := lw_in wsX90 [974, 976, 978, 980, 982] (by decide +kernel) (by decide +kernel)

theorem q132 : (Jvm.Cond.initialized "FloodLentLaw") ∈ lw_all := lw_g (lw_at lw_m1 0 rfl) rfl
set_option maxRecDepth 100000
theorem q166 : (Jvm.Cond.methodLink "FloodLentLaw" (175 : Nat) ({ cls := "FloodLent", name := "row", desc := "(III)I" } : Jvm.MethodName)) ∈ lw_all := lw_g (lw_at lw_m1 34 rfl) rfl
theorem q272 : (Jvm.Cond.methodLink "FloodLentLaw" (181 : Nat) ({ cls := "FloodLent", name := "write", desc := "(IIJ)I" } : Jvm.MethodName)) ∈ lw_all := lw_g (lw_at lw_m1 140 rfl) rfl
theorem q351 : (Jvm.Cond.methodLink "FloodLentLaw" (186 : Nat) ({ cls := "FloodLent", name := "paste", desc := "(IIIII)I" } : Jvm.MethodName)) ∈ lw_all := lw_g (lw_at lw_m1 219 rfl) rfl
theorem q367 : (Jvm.Cond.classLink "FloodLentLaw" (7 : Nat) "FloodLent") ∈ lw_all := lw_g (lw_at lw_m1 235 rfl) rfl
theorem q369 : (Jvm.Cond.methodLink "FloodLentLaw" (9 : Nat) ({ cls := "FloodLent", name := "<init>", desc := "()V" } : Jvm.MethodName)) ∈ lw_all := lw_g (lw_at lw_m1 237 rfl) rfl
theorem q649 : (Jvm.Cond.methodLink "FloodLentLaw" (13 : Nat) ({ cls := "FloodLent", name := "feed", desc := "(IIIII)I" } : Jvm.MethodName)) ∈ lw_all := lw_g (lw_at lw_m3 37 rfl) rfl
theorem q653 : (Jvm.Cond.methodLink "FloodLentLaw" (18 : Nat) ({ cls := "FloodLent", name := "end", desc := "(I)I" } : Jvm.MethodName)) ∈ lw_all := lw_g (lw_at lw_m3 41 rfl) rfl
theorem q657 : (Jvm.Cond.methodLink "FloodLentLaw" (23 : Nat) ({ cls := "FloodLent", name := "plain", desc := "()I" } : Jvm.MethodName)) ∈ lw_all := lw_g (lw_at lw_m3 45 rfl) rfl
theorem q1059 : (Jvm.Cond.methodLink "FloodLentLaw" (28 : Nat) ({ cls := "FloodLent", name := "fault", desc := "(I)I" } : Jvm.MethodName)) ∈ lw_all := lw_g (lw_at lw_m4 207 rfl) rfl
theorem q1063 : (Jvm.Cond.methodLink "FloodLentLaw" (32 : Nat) ({ cls := "FloodLent", name := "village", desc := "(II)I" } : Jvm.MethodName)) ∈ lw_all := lw_g (lw_at lw_m4 211 rfl) rfl
theorem q1081 : (Jvm.Cond.methodLink "FloodLentLaw" (37 : Nat) ({ cls := "FloodLent", name := "takes", desc := "(II)I" } : Jvm.MethodName)) ∈ lw_all := lw_g (lw_at lw_m4 229 rfl) rfl
theorem q1089 : (Jvm.Cond.methodLink "FloodLentLaw" (41 : Nat) ({ cls := "FloodLent", name := "water", desc := "(II)I" } : Jvm.MethodName)) ∈ lw_all := lw_g (lw_at lw_m4 237 rfl) rfl
theorem q1157 : (Jvm.Cond.methodLink "FloodLentLaw" (45 : Nat) ({ cls := "FloodLent", name := "flood", desc := "(II)I" } : Jvm.MethodName)) ∈ lw_all := lw_g (lw_at lw_m5 65 rfl) rfl
theorem q1161 : (Jvm.Cond.methodLink "FloodLentLaw" (49 : Nat) ({ cls := "FloodLent", name := "loan", desc := "(II)I" } : Jvm.MethodName)) ∈ lw_all := lw_g (lw_at lw_m5 69 rfl) rfl
theorem q1165 : (Jvm.Cond.methodLink "FloodLentLaw" (53 : Nat) ({ cls := "FloodLent", name := "crop", desc := "(II)I" } : Jvm.MethodName)) ∈ lw_all := lw_g (lw_at lw_m5 73 rfl) rfl
theorem q1170 : (Jvm.Cond.methodLink "FloodLentLaw" (57 : Nat) ({ cls := "FloodLent", name := "sum", desc := "(I)I" } : Jvm.MethodName)) ∈ lw_all := lw_g (lw_at lw_m5 78 rfl) rfl
theorem q1194 : (Jvm.Cond.methodLink "FloodLentLaw" (61 : Nat) ({ cls := "FloodLent", name := "first", desc := "()I" } : Jvm.MethodName)) ∈ lw_all := lw_g (lw_at lw_m5 102 rfl) rfl
theorem q1198 : (Jvm.Cond.methodLink "FloodLentLaw" (65 : Nat) ({ cls := "FloodLent", name := "best", desc := "()I" } : Jvm.MethodName)) ∈ lw_all := lw_g (lw_at lw_m5 106 rfl) rfl
theorem q1224 : (Jvm.Cond.methodLink "FloodLentLaw" (69 : Nat) ({ cls := "FloodLent", name := "taker", desc := "(I)I" } : Jvm.MethodName)) ∈ lw_all := lw_g (lw_at lw_m5 132 rfl) rfl
theorem q1228 : (Jvm.Cond.methodLink "FloodLentLaw" (73 : Nat) ({ cls := "FloodLent", name := "safe", desc := "()I" } : Jvm.MethodName)) ∈ lw_all := lw_g (lw_at lw_m5 136 rfl) rfl
theorem q1232 : (Jvm.Cond.methodLink "FloodLentLaw" (77 : Nat) ({ cls := "FloodLent", name := "hope", desc := "(I)J" } : Jvm.MethodName)) ∈ lw_all := lw_g (lw_at lw_m5 140 rfl) rfl
theorem q1254 : (Jvm.Cond.methodLink "FloodLentLaw" (82 : Nat) ({ cls := "FloodLent", name := "wise", desc := "(I)I" } : Jvm.MethodName)) ∈ lw_all := lw_g (lw_at lw_m5 162 rfl) rfl
theorem q1262 : (Jvm.Cond.methodLink "FloodLentLaw" (86 : Nat) ({ cls := "FloodLent", name := "wisest", desc := "(I)J" } : Jvm.MethodName)) ∈ lw_all := lw_g (lw_at lw_m5 170 rfl) rfl
theorem q1266 : (Jvm.Cond.methodLink "FloodLentLaw" (90 : Nat) ({ cls := "FloodLent", name := "agree", desc := "(I)I" } : Jvm.MethodName)) ∈ lw_all := lw_g (lw_at lw_m5 174 rfl) rfl
theorem q1290 : (Jvm.Cond.methodLink "FloodLentLaw" (94 : Nat) ({ cls := "FloodLent", name := "who", desc := "(II)I" } : Jvm.MethodName)) ∈ lw_all := lw_g (lw_at lw_m5 198 rfl) rfl
theorem q1294 : (Jvm.Cond.methodLink "FloodLentLaw" (98 : Nat) ({ cls := "FloodLent", name := "sure", desc := "(III)I" } : Jvm.MethodName)) ∈ lw_all := lw_g (lw_at lw_m5 202 rfl) rfl
theorem q1298 : (Jvm.Cond.methodLink "FloodLentLaw" (103 : Nat) ({ cls := "FloodLent", name := "needed", desc := "(I)I" } : Jvm.MethodName)) ∈ lw_all := lw_g (lw_at lw_m5 206 rfl) rfl
theorem q1302 : (Jvm.Cond.methodLink "FloodLentLaw" (107 : Nat) ({ cls := "FloodLent", name := "fair", desc := "(I)I" } : Jvm.MethodName)) ∈ lw_all := lw_g (lw_at lw_m5 210 rfl) rfl
theorem q1310 : (Jvm.Cond.methodLink "FloodLentLaw" (111 : Nat) ({ cls := "FloodLent", name := "more", desc := "(I)I" } : Jvm.MethodName)) ∈ lw_all := lw_g (lw_at lw_m5 218 rfl) rfl
theorem q1314 : (Jvm.Cond.methodLink "FloodLentLaw" (115 : Nat) ({ cls := "FloodLent", name := "owes", desc := "(II)I" } : Jvm.MethodName)) ∈ lw_all := lw_g (lw_at lw_m5 222 rfl) rfl
theorem q1330 : (Jvm.Cond.methodLink "FloodLentLaw" (119 : Nat) ({ cls := "FloodLent", name := "rings", desc := "(I)I" } : Jvm.MethodName)) ∈ lw_all := lw_g (lw_at lw_m5 238 rfl) rfl
theorem q1355 : (Jvm.Cond.methodLink "FloodLentLaw" (123 : Nat) ({ cls := "FloodLent", name := "ring", desc := "(I)I" } : Jvm.MethodName)) ∈ lw_all := lw_g (lw_at lw_m6 23 rfl) rfl
theorem q1359 : (Jvm.Cond.methodLink "FloodLentLaw" (127 : Nat) ({ cls := "FloodLent", name := "left", desc := "(II)I" } : Jvm.MethodName)) ∈ lw_all := lw_g (lw_at lw_m6 27 rfl) rfl
theorem q1363 : (Jvm.Cond.methodLink "FloodLentLaw" (131 : Nat) ({ cls := "FloodLent", name := "struck", desc := "(II)I" } : Jvm.MethodName)) ∈ lw_all := lw_g (lw_at lw_m6 31 rfl) rfl
theorem q1380 : (Jvm.Cond.methodLink "FloodLentLaw" (135 : Nat) ({ cls := "FloodLent", name := "pays", desc := "(III)I" } : Jvm.MethodName)) ∈ lw_all := lw_g (lw_at lw_m6 48 rfl) rfl
theorem q1384 : (Jvm.Cond.methodLink "FloodLentLaw" (139 : Nat) ({ cls := "FloodLent", name := "law", desc := "()I" } : Jvm.MethodName)) ∈ lw_all := lw_g (lw_at lw_m6 52 rfl) rfl
theorem q1394 : (Jvm.Cond.methodLink "FloodLentLaw" (143 : Nat) ({ cls := "FloodLent", name := "melons", desc := "(I)I" } : Jvm.MethodName)) ∈ lw_all := lw_g (lw_at lw_m6 62 rfl) rfl
theorem q1399 : (Jvm.Cond.methodLink "FloodLentLaw" (147 : Nat) ({ cls := "FloodLent", name := "share", desc := "(I)I" } : Jvm.MethodName)) ∈ lw_all := lw_g (lw_at lw_m6 67 rfl) rfl
theorem q1407 : (Jvm.Cond.methodLink "FloodLentLaw" (151 : Nat) ({ cls := "FloodLent", name := "enough", desc := "(I)I" } : Jvm.MethodName)) ∈ lw_all := lw_g (lw_at lw_m6 75 rfl) rfl
theorem q1415 : (Jvm.Cond.methodLink "FloodLentLaw" (155 : Nat) ({ cls := "FloodLent", name := "year", desc := "(II)I" } : Jvm.MethodName)) ∈ lw_all := lw_g (lw_at lw_m6 83 rfl) rfl
theorem q1432 : (Jvm.Cond.methodLink "FloodLentLaw" (159 : Nat) ({ cls := "FloodLent", name := "years", desc := "(II)I" } : Jvm.MethodName)) ∈ lw_all := lw_g (lw_at lw_m6 100 rfl) rfl
theorem q1437 : (Jvm.Cond.methodLink "FloodLentLaw" (163 : Nat) ({ cls := "FloodLent", name := "count", desc := "(I)I" } : Jvm.MethodName)) ∈ lw_all := lw_g (lw_at lw_m6 105 rfl) rfl
theorem q1441 : (Jvm.Cond.methodLink "FloodLentLaw" (167 : Nat) ({ cls := "FloodLent", name := "image", desc := "(I)I" } : Jvm.MethodName)) ∈ lw_all := lw_g (lw_at lw_m6 109 rfl) rfl
theorem q1462 : (Jvm.Cond.methodLink "FloodLentLaw" (171 : Nat) ({ cls := "FloodLent", name := "restore", desc := "(I)I" } : Jvm.MethodName)) ∈ lw_all := lw_g (lw_at lw_m6 130 rfl) rfl
theorem q1466 : (Jvm.Cond.classLink "FloodLentLaw" (10 : Nat) "FloodLentModel") ∈ lw_all := lw_g (lw_at lw_m6 134 rfl) rfl
theorem q1468 : (Jvm.Cond.methodLink "FloodLentLaw" (12 : Nat) ({ cls := "FloodLentModel", name := "<init>", desc := "()V" } : Jvm.MethodName)) ∈ lw_all := lw_g (lw_at lw_m6 136 rfl) rfl
theorem q1593 : (Jvm.Cond.methodLink "FloodLentLaw" (170 : Nat) ({ cls := "FloodLentModel", name := "image", desc := "(I)I" } : Jvm.MethodName)) ∈ lw_all := lw_g (lw_at lw_m7 21 rfl) rfl
theorem q1601 : (Jvm.Cond.methodLink "FloodLentLaw" (174 : Nat) ({ cls := "FloodLentModel", name := "restore", desc := "(I)I" } : Jvm.MethodName)) ∈ lw_all := lw_g (lw_at lw_m7 29 rfl) rfl
theorem q1605 : (Jvm.Cond.methodLink "FloodLentLaw" (17 : Nat) ({ cls := "FloodLentModel", name := "feed", desc := "(IIIII)I" } : Jvm.MethodName)) ∈ lw_all := lw_g (lw_at lw_m7 33 rfl) rfl
theorem q1609 : (Jvm.Cond.methodLink "FloodLentLaw" (22 : Nat) ({ cls := "FloodLentModel", name := "end", desc := "(I)I" } : Jvm.MethodName)) ∈ lw_all := lw_g (lw_at lw_m7 37 rfl) rfl
theorem q1613 : (Jvm.Cond.methodLink "FloodLentLaw" (31 : Nat) ({ cls := "FloodLentModel", name := "fault", desc := "(I)I" } : Jvm.MethodName)) ∈ lw_all := lw_g (lw_at lw_m7 41 rfl) rfl
theorem q1617 : (Jvm.Cond.methodLink "FloodLentLaw" (27 : Nat) ({ cls := "FloodLentModel", name := "plain", desc := "()I" } : Jvm.MethodName)) ∈ lw_all := lw_g (lw_at lw_m7 45 rfl) rfl
theorem q1717 : (Jvm.Cond.methodLink "FloodLentLaw" (36 : Nat) ({ cls := "FloodLentModel", name := "village", desc := "(II)I" } : Jvm.MethodName)) ∈ lw_all := lw_g (lw_at lw_m7 145 rfl) rfl
theorem q1734 : (Jvm.Cond.methodLink "FloodLentLaw" (40 : Nat) ({ cls := "FloodLentModel", name := "takes", desc := "(II)I" } : Jvm.MethodName)) ∈ lw_all := lw_g (lw_at lw_m7 162 rfl) rfl
theorem q1742 : (Jvm.Cond.methodLink "FloodLentLaw" (44 : Nat) ({ cls := "FloodLentModel", name := "water", desc := "(II)I" } : Jvm.MethodName)) ∈ lw_all := lw_g (lw_at lw_m7 170 rfl) rfl
theorem q1806 : (Jvm.Cond.methodLink "FloodLentLaw" (48 : Nat) ({ cls := "FloodLentModel", name := "flood", desc := "(II)I" } : Jvm.MethodName)) ∈ lw_all := lw_g (lw_at lw_m7 234 rfl) rfl
theorem q1815 : (Jvm.Cond.methodLink "FloodLentLaw" (52 : Nat) ({ cls := "FloodLentModel", name := "loan", desc := "(II)I" } : Jvm.MethodName)) ∈ lw_all := lw_g (lw_at lw_m8 3 rfl) rfl
theorem q1823 : (Jvm.Cond.methodLink "FloodLentLaw" (56 : Nat) ({ cls := "FloodLentModel", name := "crop", desc := "(II)I" } : Jvm.MethodName)) ∈ lw_all := lw_g (lw_at lw_m8 11 rfl) rfl
theorem q1827 : (Jvm.Cond.methodLink "FloodLentLaw" (60 : Nat) ({ cls := "FloodLentModel", name := "sum", desc := "(I)I" } : Jvm.MethodName)) ∈ lw_all := lw_g (lw_at lw_m8 15 rfl) rfl
theorem q1852 : (Jvm.Cond.methodLink "FloodLentLaw" (64 : Nat) ({ cls := "FloodLentModel", name := "first", desc := "()I" } : Jvm.MethodName)) ∈ lw_all := lw_g (lw_at lw_m8 40 rfl) rfl
theorem q1856 : (Jvm.Cond.methodLink "FloodLentLaw" (68 : Nat) ({ cls := "FloodLentModel", name := "best", desc := "()I" } : Jvm.MethodName)) ∈ lw_all := lw_g (lw_at lw_m8 44 rfl) rfl
theorem q1884 : (Jvm.Cond.methodLink "FloodLentLaw" (72 : Nat) ({ cls := "FloodLentModel", name := "taker", desc := "(I)I" } : Jvm.MethodName)) ∈ lw_all := lw_g (lw_at lw_m8 72 rfl) rfl
theorem q1892 : (Jvm.Cond.methodLink "FloodLentLaw" (76 : Nat) ({ cls := "FloodLentModel", name := "safe", desc := "()I" } : Jvm.MethodName)) ∈ lw_all := lw_g (lw_at lw_m8 80 rfl) rfl
theorem q1896 : (Jvm.Cond.methodLink "FloodLentLaw" (81 : Nat) ({ cls := "FloodLentModel", name := "hope", desc := "(I)J" } : Jvm.MethodName)) ∈ lw_all := lw_g (lw_at lw_m8 84 rfl) rfl
theorem q1914 : (Jvm.Cond.methodLink "FloodLentLaw" (85 : Nat) ({ cls := "FloodLentModel", name := "wise", desc := "(I)I" } : Jvm.MethodName)) ∈ lw_all := lw_g (lw_at lw_m8 102 rfl) rfl
theorem q1922 : (Jvm.Cond.methodLink "FloodLentLaw" (89 : Nat) ({ cls := "FloodLentModel", name := "wisest", desc := "(I)J" } : Jvm.MethodName)) ∈ lw_all := lw_g (lw_at lw_m8 110 rfl) rfl
theorem q1926 : (Jvm.Cond.methodLink "FloodLentLaw" (93 : Nat) ({ cls := "FloodLentModel", name := "agree", desc := "(I)I" } : Jvm.MethodName)) ∈ lw_all := lw_g (lw_at lw_m8 114 rfl) rfl
theorem q1945 : (Jvm.Cond.methodLink "FloodLentLaw" (97 : Nat) ({ cls := "FloodLentModel", name := "who", desc := "(II)I" } : Jvm.MethodName)) ∈ lw_all := lw_g (lw_at lw_m8 133 rfl) rfl
theorem q1949 : (Jvm.Cond.methodLink "FloodLentLaw" (102 : Nat) ({ cls := "FloodLentModel", name := "sure", desc := "(III)I" } : Jvm.MethodName)) ∈ lw_all := lw_g (lw_at lw_m8 137 rfl) rfl
theorem q1953 : (Jvm.Cond.methodLink "FloodLentLaw" (106 : Nat) ({ cls := "FloodLentModel", name := "needed", desc := "(I)I" } : Jvm.MethodName)) ∈ lw_all := lw_g (lw_at lw_m8 141 rfl) rfl
theorem q1957 : (Jvm.Cond.methodLink "FloodLentLaw" (110 : Nat) ({ cls := "FloodLentModel", name := "fair", desc := "(I)I" } : Jvm.MethodName)) ∈ lw_all := lw_g (lw_at lw_m8 145 rfl) rfl
theorem q1965 : (Jvm.Cond.methodLink "FloodLentLaw" (114 : Nat) ({ cls := "FloodLentModel", name := "more", desc := "(I)I" } : Jvm.MethodName)) ∈ lw_all := lw_g (lw_at lw_m8 153 rfl) rfl
theorem q1969 : (Jvm.Cond.methodLink "FloodLentLaw" (118 : Nat) ({ cls := "FloodLentModel", name := "owes", desc := "(II)I" } : Jvm.MethodName)) ∈ lw_all := lw_g (lw_at lw_m8 157 rfl) rfl
theorem q1985 : (Jvm.Cond.methodLink "FloodLentLaw" (122 : Nat) ({ cls := "FloodLentModel", name := "rings", desc := "(I)I" } : Jvm.MethodName)) ∈ lw_all := lw_g (lw_at lw_m8 173 rfl) rfl
theorem q2005 : (Jvm.Cond.methodLink "FloodLentLaw" (126 : Nat) ({ cls := "FloodLentModel", name := "ring", desc := "(I)I" } : Jvm.MethodName)) ∈ lw_all := lw_g (lw_at lw_m8 193 rfl) rfl
theorem q2009 : (Jvm.Cond.methodLink "FloodLentLaw" (130 : Nat) ({ cls := "FloodLentModel", name := "left", desc := "(II)I" } : Jvm.MethodName)) ∈ lw_all := lw_g (lw_at lw_m8 197 rfl) rfl
theorem q2013 : (Jvm.Cond.methodLink "FloodLentLaw" (134 : Nat) ({ cls := "FloodLentModel", name := "struck", desc := "(II)I" } : Jvm.MethodName)) ∈ lw_all := lw_g (lw_at lw_m8 201 rfl) rfl
theorem q2033 : (Jvm.Cond.methodLink "FloodLentLaw" (138 : Nat) ({ cls := "FloodLentModel", name := "pays", desc := "(III)I" } : Jvm.MethodName)) ∈ lw_all := lw_g (lw_at lw_m8 221 rfl) rfl
theorem q2037 : (Jvm.Cond.methodLink "FloodLentLaw" (142 : Nat) ({ cls := "FloodLentModel", name := "law", desc := "()I" } : Jvm.MethodName)) ∈ lw_all := lw_g (lw_at lw_m8 225 rfl) rfl
theorem q2044 : (Jvm.Cond.methodLink "FloodLentLaw" (146 : Nat) ({ cls := "FloodLentModel", name := "melons", desc := "(I)I" } : Jvm.MethodName)) ∈ lw_all := lw_g (lw_at lw_m8 232 rfl) rfl
theorem q2052 : (Jvm.Cond.methodLink "FloodLentLaw" (150 : Nat) ({ cls := "FloodLentModel", name := "share", desc := "(I)I" } : Jvm.MethodName)) ∈ lw_all := lw_g (lw_at lw_m9 0 rfl) rfl
theorem q2060 : (Jvm.Cond.methodLink "FloodLentLaw" (154 : Nat) ({ cls := "FloodLentModel", name := "enough", desc := "(I)I" } : Jvm.MethodName)) ∈ lw_all := lw_g (lw_at lw_m9 8 rfl) rfl
theorem q2068 : (Jvm.Cond.methodLink "FloodLentLaw" (158 : Nat) ({ cls := "FloodLentModel", name := "year", desc := "(II)I" } : Jvm.MethodName)) ∈ lw_all := lw_g (lw_at lw_m9 16 rfl) rfl
theorem q2085 : (Jvm.Cond.methodLink "FloodLentLaw" (162 : Nat) ({ cls := "FloodLentModel", name := "years", desc := "(II)I" } : Jvm.MethodName)) ∈ lw_all := lw_g (lw_at lw_m9 33 rfl) rfl
theorem q2090 : (Jvm.Cond.methodLink "FloodLentLaw" (166 : Nat) ({ cls := "FloodLentModel", name := "count", desc := "(I)I" } : Jvm.MethodName)) ∈ lw_all := lw_g (lw_at lw_m9 38 rfl) rfl
theorem q2094 : (Jvm.Cond.methodLink "FloodLentLaw" (178 : Nat) ({ cls := "FloodLentModel", name := "row", desc := "(III)I" } : Jvm.MethodName)) ∈ lw_all := lw_g (lw_at lw_m9 42 rfl) rfl
theorem q2098 : (Jvm.Cond.methodLink "FloodLentLaw" (185 : Nat) ({ cls := "FloodLentModel", name := "write", desc := "(IIJ)I" } : Jvm.MethodName)) ∈ lw_all := lw_g (lw_at lw_m9 46 rfl) rfl
theorem q2105 : (Jvm.Cond.methodLink "FloodLentLaw" (189 : Nat) ({ cls := "FloodLentModel", name := "paste", desc := "(IIIII)I" } : Jvm.MethodName)) ∈ lw_all := lw_g (lw_at lw_m9 53 rfl) rfl
theorem q2109 : (Jvm.Cond.constantLong "FloodLentLaw" (179 : Nat) (4294967295 : Int64)) ∈ lw_all := lw_g (lw_at lw_m9 57 rfl) rfl

theorem q2135 : (Jvm.Cond.castable "[B" "java/lang/Object") ∈ lw_tbl := lw_at lw_m9 83 rfl
set_option maxRecDepth 100000

theorem q2137 : (Jvm.Cond.castable "[I" "java/lang/Object") ∈ lw_tbl := lw_at lw_m9 85 rfl
set_option maxRecDepth 100000

theorem q2138 : (Jvm.Cond.castable "[J" "java/lang/Object") ∈ lw_tbl := lw_at lw_m9 86 rfl
set_option maxRecDepth 100000

theorem q2142 : (Jvm.Cond.castable "[LFloodLent$Image;" "java/lang/Object") ∈ lw_tbl := lw_at lw_m9 90 rfl
set_option maxRecDepth 100000

theorem q2139 : (Jvm.Cond.castable "[LFloodLent$Slot;" "java/lang/Object") ∈ lw_tbl := lw_at lw_m9 87 rfl
set_option maxRecDepth 100000

theorem q2132 : (Jvm.Cond.sameMethod "[Ljava/lang/Object;" "java/lang/Object" "getClass" "()Ljava/lang/Class;") ∈ lw_all := lw_g (lw_at lw_m9 80 rfl) rfl
set_option maxRecDepth 100000
theorem q2133 : (Jvm.Cond.selects "[Ljava/lang/Object;" ({ cls := "java/lang/Object", name := "getClass", desc := "()Ljava/lang/Class;" } : Jvm.MethodName) ({ cls := "java/lang/Object", name := "getClass", desc := "()Ljava/lang/Class;" } : Jvm.MethodName)) ∈ lw_all := lw_g (lw_at lw_m9 81 rfl) rfl
theorem q2140 : (Jvm.Cond.castable "[Ljava/lang/Object;" "java/lang/Object") ∈ lw_tbl := lw_at lw_m9 88 rfl

theorem q2136 : (Jvm.Cond.castable "[S" "java/lang/Object") ∈ lw_tbl := lw_at lw_m9 84 rfl
set_option maxRecDepth 100000

theorem q2143 : (Jvm.Cond.castable "[Z" "java/lang/Object") ∈ lw_tbl := lw_at lw_m9 91 rfl
set_option maxRecDepth 100000

theorem q2141 : (Jvm.Cond.castable "[[I" "java/lang/Object") ∈ lw_tbl := lw_at lw_m9 89 rfl
set_option maxRecDepth 100000

theorem q155 : (Jvm.Cond.initialized "java/lang/System") ∈ lw_all := lw_g (lw_at lw_m1 23 rfl) rfl
set_option maxRecDepth 100000
theorem q365 : (Jvm.Cond.static ({ cls := "java/lang/System", name := "arraycopy", desc := "(Ljava/lang/Object;ILjava/lang/Object;II)V" } : Jvm.MethodName)) ∈ lw_all := lw_g (lw_at lw_m1 233 rfl) rfl
theorem q366 : (Jvm.Cond.native ({ cls := "java/lang/System", name := "arraycopy", desc := "(Ljava/lang/Object;ILjava/lang/Object;II)V" } : Jvm.MethodName)) ∈ lw_all := lw_g (lw_at lw_m1 234 rfl) rfl

theorem q831 : (Jvm.Cond.interfaceMethod "java/util/List" "java/util/List" "size" "()I") ∈ lw_tbl := lw_at lw_m3 219 rfl
set_option maxRecDepth 100000
theorem q832 : (Jvm.Cond.declares ({ cls := "java/util/List", name := "size", desc := "()I" } : Jvm.MethodName)) ∈ lw_tbl := lw_at lw_m3 220 rfl
theorem q880 : (Jvm.Cond.interfaceMethod "java/util/List" "java/util/List" "add" "(Ljava/lang/Object;)Z") ∈ lw_tbl := lw_at lw_m4 28 rfl
theorem q881 : (Jvm.Cond.declares ({ cls := "java/util/List", name := "add", desc := "(Ljava/lang/Object;)Z" } : Jvm.MethodName)) ∈ lw_tbl := lw_at lw_m4 29 rfl
theorem q1036 : (Jvm.Cond.interfaceMethod "java/util/List" "java/util/List" "get" "(I)Ljava/lang/Object;") ∈ lw_tbl := lw_at lw_m4 184 rfl
theorem q1037 : (Jvm.Cond.declares ({ cls := "java/util/List", name := "get", desc := "(I)Ljava/lang/Object;" } : Jvm.MethodName)) ∈ lw_tbl := lw_at lw_m4 185 rfl

theorem q264 : (Jvm.Cond.arrayClass Jvm.ClassFile.FieldType.byte) ∈ lw_all := lw_g (lw_at lw_m1 132 rfl) rfl
set_option maxRecDepth 100000
theorem q269 : (Jvm.Cond.arrayClass Jvm.ClassFile.FieldType.short) ∈ lw_all := lw_g (lw_at lw_m1 137 rfl) rfl
theorem q270 : (Jvm.Cond.arrayClass Jvm.ClassFile.FieldType.int) ∈ lw_all := lw_g (lw_at lw_m1 138 rfl) rfl
theorem q271 : (Jvm.Cond.arrayClass Jvm.ClassFile.FieldType.long) ∈ lw_all := lw_g (lw_at lw_m1 139 rfl) rfl
theorem q374 : (Jvm.Cond.arrayOver (Jvm.ClassFile.FieldType.object "FloodLent$Slot")) ∈ lw_tbl := lw_at lw_m2 2 rfl
theorem q403 : (Jvm.Cond.arrayOver (Jvm.ClassFile.FieldType.object "java/lang/Object")) ∈ lw_tbl := lw_at lw_m2 31 rfl
theorem q474 : (Jvm.Cond.arrayOver (Jvm.ClassFile.FieldType.array Jvm.ClassFile.FieldType.int)) ∈ lw_tbl := lw_at lw_m2 102 rfl
theorem q566 : (Jvm.Cond.arrayOver (Jvm.ClassFile.FieldType.object "FloodLent$Image")) ∈ lw_tbl := lw_at lw_m2 194 rfl
theorem q1592 : (Jvm.Cond.arrayClass Jvm.ClassFile.FieldType.boolean) ∈ lw_all := lw_g (lw_at lw_m7 20 rfl) rfl
