/-! java/util/AbstractCollection -/
set_option maxRecDepth 100000
def RJ0 : String := "java/util/AbstractCollection"
abbrev cJ0_init : ByteArray := prog_41_method_1_code
def yJ0_init : MethodName := ⟨RJ0, "<init>", "()V"⟩
theorem dJ0_init_0 : decode cJ0_init 0 = .ok (.aload_n 0, 1) := by decide +kernel
theorem dJ0_init_1 : decode cJ0_init 1 = .ok (.invokespecial 1, 3) := by decide +kernel
theorem dJ0_init_4 : decode cJ0_init 4 = .ok (.return_, 1) := by decide +kernel
theorem q99 : (Jvm.Cond.initialized "java/util/AbstractCollection") ∈ lw_all := lw_g (lw_at lw_m1 4 rfl) rfl
theorem q188 : (Jvm.Cond.instanceMethod ({ cls := "java/util/AbstractCollection", name := "<init>", desc := "()V" } : Jvm.MethodName)) ∈ lw_all := lw_g (lw_at lw_m1 93 rfl) rfl
theorem q189 : (Jvm.Cond.code ({ cls := "java/util/AbstractCollection", name := "<init>", desc := "()V" } : Jvm.MethodName) prog_41_method_1_code (1 : Nat) (Option.none : Option Jvm.ClassFile.FieldType)) ∈ lw_all := lw_g (lw_at lw_m1 94 rfl) rfl
theorem q190 : (Jvm.Cond.methodLink "java/util/AbstractCollection" (1 : Nat) ({ cls := "java/lang/Object", name := "<init>", desc := "()V" } : Jvm.MethodName)) ∈ lw_all := lw_g (lw_at lw_m1 95 rfl) rfl

/-! java/util/AbstractList -/
set_option maxRecDepth 100000
def RJ1 : String := "java/util/AbstractList"
abbrev cJ1_init : ByteArray := prog_42_method_1_code
def yJ1_init : MethodName := ⟨RJ1, "<init>", "()V"⟩
def dkwJ1_init_0 : List UInt8 := [42, 183, 0, 1, 42, 3, 181, 0, 7, 177]
abbrev dktJ1_init_0 : List UInt8 := dkwJ1_init_0 ++ []
theorem dksJ1_init_0 : cJ1_init.data.toList.drop 0 = dktJ1_init_0 := by decide +kernel
theorem dJ1_init_0 : decode cJ1_init 0 = .ok (.aload_n 0, 1) := dk_42 (dk_at dksJ1_init_0 0 rfl rfl)
theorem dJ1_init_1 : decode cJ1_init 1 = .ok (.invokespecial 1, 3) := dk_183 0 1 (dk_at dksJ1_init_0 1 rfl rfl)
theorem dJ1_init_4 : decode cJ1_init 4 = .ok (.aload_n 0, 1) := dk_42 (dk_at dksJ1_init_0 4 rfl rfl)
theorem dJ1_init_5 : decode cJ1_init 5 = .ok (.iconst 0, 1) := dk_3 (dk_at dksJ1_init_0 5 rfl rfl)
theorem dJ1_init_6 : decode cJ1_init 6 = .ok (.putfield 7, 3) := dk_181 0 7 (dk_at dksJ1_init_0 6 rfl rfl)
theorem dJ1_init_9 : decode cJ1_init 9 = .ok (.return_, 1) := dk_177 (dk_at dksJ1_init_0 9 rfl rfl)
theorem q100 : (Jvm.Cond.initialized "java/util/AbstractList") ∈ lw_all := lw_g (lw_at lw_m1 5 rfl) rfl
theorem q185 : (Jvm.Cond.instanceMethod ({ cls := "java/util/AbstractList", name := "<init>", desc := "()V" } : Jvm.MethodName)) ∈ lw_all := lw_g (lw_at lw_m1 90 rfl) rfl
theorem q186 : (Jvm.Cond.code ({ cls := "java/util/AbstractList", name := "<init>", desc := "()V" } : Jvm.MethodName) prog_42_method_1_code (1 : Nat) (Option.none : Option Jvm.ClassFile.FieldType)) ∈ lw_all := lw_g (lw_at lw_m1 91 rfl) rfl
theorem q187 : (Jvm.Cond.methodLink "java/util/AbstractList" (1 : Nat) ({ cls := "java/util/AbstractCollection", name := "<init>", desc := "()V" } : Jvm.MethodName)) ∈ lw_all := lw_g (lw_at lw_m1 92 rfl) rfl
theorem q195 : (Jvm.Cond.fieldLink "java/util/AbstractList" (7 : Nat) "java/util/AbstractList" "modCount" "I") ∈ lw_all := lw_g (lw_at lw_m1 100 rfl) rfl
theorem q203 : (Jvm.Cond.soleField "java/util/AbstractList" "modCount") ∈ lw_all := lw_g (lw_at lw_m1 108 rfl) rfl

/-! java/lang/Exception -/
set_option maxRecDepth 100000
def RJ10 : String := "java/lang/Exception"
abbrev cJ10_init : ByteArray := prog_29_method_1_code
def yJ10_init : MethodName := ⟨RJ10, "<init>", "()V"⟩
theorem dJ10_init_0 : decode cJ10_init 0 = .ok (.aload_n 0, 1) := by decide +kernel
theorem dJ10_init_1 : decode cJ10_init 1 = .ok (.invokespecial 1, 3) := by decide +kernel
theorem dJ10_init_4 : decode cJ10_init 4 = .ok (.return_, 1) := by decide +kernel
abbrev cJ10_init_2 : ByteArray := prog_29_method_2_code
def yJ10_init_2 : MethodName := ⟨RJ10, "<init>", "(Ljava/lang/String;)V"⟩
def dkwJ10_init_2_0 : List UInt8 := [42, 43, 183, 0, 7, 177]
abbrev dktJ10_init_2_0 : List UInt8 := dkwJ10_init_2_0 ++ []
theorem dksJ10_init_2_0 : cJ10_init_2.data.toList.drop 0 = dktJ10_init_2_0 := by decide +kernel
theorem dJ10_init_2_0 : decode cJ10_init_2 0 = .ok (.aload_n 0, 1) := dk_42 (dk_at dksJ10_init_2_0 0 rfl rfl)
theorem dJ10_init_2_1 : decode cJ10_init_2 1 = .ok (.aload_n 1, 1) := dk_43 (dk_at dksJ10_init_2_0 1 rfl rfl)
theorem dJ10_init_2_2 : decode cJ10_init_2 2 = .ok (.invokespecial 7, 3) := dk_183 0 7 (dk_at dksJ10_init_2_0 2 rfl rfl)
theorem dJ10_init_2_5 : decode cJ10_init_2 5 = .ok (.return_, 1) := dk_177 (dk_at dksJ10_init_2_0 5 rfl rfl)
theorem q121 : (Jvm.Cond.initialized "java/lang/Exception") ∈ lw_all := lw_g (lw_at lw_m1 26 rfl) rfl
theorem q823 : (Jvm.Cond.declares ({ cls := "java/lang/Exception", name := "<init>", desc := "()V" } : Jvm.MethodName)) ∈ lw_tbl := lw_at lw_m4 8 rfl
theorem q824 : (Jvm.Cond.declares ({ cls := "java/lang/Exception", name := "<init>", desc := "(Ljava/lang/String;)V" } : Jvm.MethodName)) ∈ lw_tbl := lw_at lw_m4 9 rfl
theorem q868 : (Jvm.Cond.superclass "java/lang/Exception" "java/lang/Throwable") ∈ lw_all := lw_g (lw_at lw_m4 53 rfl) rfl
theorem q882 : (Jvm.Cond.instanceMethod ({ cls := "java/lang/Exception", name := "<init>", desc := "()V" } : Jvm.MethodName)) ∈ lw_all := lw_g (lw_at lw_m4 67 rfl) rfl
theorem q883 : (Jvm.Cond.code ({ cls := "java/lang/Exception", name := "<init>", desc := "()V" } : Jvm.MethodName) prog_29_method_1_code (1 : Nat) (Option.none : Option Jvm.ClassFile.FieldType)) ∈ lw_all := lw_g (lw_at lw_m4 68 rfl) rfl
theorem q884 : (Jvm.Cond.methodLink "java/lang/Exception" (1 : Nat) ({ cls := "java/lang/Throwable", name := "<init>", desc := "()V" } : Jvm.MethodName)) ∈ lw_all := lw_g (lw_at lw_m4 69 rfl) rfl
theorem q1252 : (Jvm.Cond.instanceMethod ({ cls := "java/lang/Exception", name := "<init>", desc := "(Ljava/lang/String;)V" } : Jvm.MethodName)) ∈ lw_all := lw_g (lw_at lw_m5 197 rfl) rfl
theorem q1253 : (Jvm.Cond.code ({ cls := "java/lang/Exception", name := "<init>", desc := "(Ljava/lang/String;)V" } : Jvm.MethodName) prog_29_method_2_code (2 : Nat) (Option.none : Option Jvm.ClassFile.FieldType)) ∈ lw_all := lw_g (lw_at lw_m5 198 rfl) rfl
theorem q1254 : (Jvm.Cond.methodLink "java/lang/Exception" (7 : Nat) ({ cls := "java/lang/Throwable", name := "<init>", desc := "(Ljava/lang/String;)V" } : Jvm.MethodName)) ∈ lw_all := lw_g (lw_at lw_m5 199 rfl) rfl

/-! java/lang/RuntimeException -/
set_option maxRecDepth 100000
def RJ11 : String := "java/lang/RuntimeException"
abbrev cJ11_init : ByteArray := prog_35_method_1_code
def yJ11_init : MethodName := ⟨RJ11, "<init>", "()V"⟩
theorem dJ11_init_0 : decode cJ11_init 0 = .ok (.aload_n 0, 1) := by decide +kernel
theorem dJ11_init_1 : decode cJ11_init 1 = .ok (.invokespecial 1, 3) := by decide +kernel
theorem dJ11_init_4 : decode cJ11_init 4 = .ok (.return_, 1) := by decide +kernel
abbrev cJ11_init_2 : ByteArray := prog_35_method_2_code
def yJ11_init_2 : MethodName := ⟨RJ11, "<init>", "(Ljava/lang/String;)V"⟩
def dkwJ11_init_2_0 : List UInt8 := [42, 43, 183, 0, 7, 177]
abbrev dktJ11_init_2_0 : List UInt8 := dkwJ11_init_2_0 ++ []
theorem dksJ11_init_2_0 : cJ11_init_2.data.toList.drop 0 = dktJ11_init_2_0 := by decide +kernel
theorem dJ11_init_2_0 : decode cJ11_init_2 0 = .ok (.aload_n 0, 1) := dk_42 (dk_at dksJ11_init_2_0 0 rfl rfl)
theorem dJ11_init_2_1 : decode cJ11_init_2 1 = .ok (.aload_n 1, 1) := dk_43 (dk_at dksJ11_init_2_0 1 rfl rfl)
theorem dJ11_init_2_2 : decode cJ11_init_2 2 = .ok (.invokespecial 7, 3) := dk_183 0 7 (dk_at dksJ11_init_2_0 2 rfl rfl)
theorem dJ11_init_2_5 : decode cJ11_init_2 5 = .ok (.return_, 1) := dk_177 (dk_at dksJ11_init_2_0 5 rfl rfl)
theorem q122 : (Jvm.Cond.initialized "java/lang/RuntimeException") ∈ lw_all := lw_g (lw_at lw_m1 27 rfl) rfl
theorem q821 : (Jvm.Cond.declares ({ cls := "java/lang/RuntimeException", name := "<init>", desc := "()V" } : Jvm.MethodName)) ∈ lw_tbl := lw_at lw_m4 6 rfl
theorem q822 : (Jvm.Cond.declares ({ cls := "java/lang/RuntimeException", name := "<init>", desc := "(Ljava/lang/String;)V" } : Jvm.MethodName)) ∈ lw_tbl := lw_at lw_m4 7 rfl
theorem q864 : (Jvm.Cond.sameMethod "java/lang/RuntimeException" "java/lang/Throwable" "fillInStackTrace" "()Ljava/lang/Throwable;") ∈ lw_all := lw_g (lw_at lw_m4 49 rfl) rfl
theorem q867 : (Jvm.Cond.superclass "java/lang/RuntimeException" "java/lang/Exception") ∈ lw_all := lw_g (lw_at lw_m4 52 rfl) rfl
theorem q879 : (Jvm.Cond.instanceMethod ({ cls := "java/lang/RuntimeException", name := "<init>", desc := "()V" } : Jvm.MethodName)) ∈ lw_all := lw_g (lw_at lw_m4 64 rfl) rfl
theorem q880 : (Jvm.Cond.code ({ cls := "java/lang/RuntimeException", name := "<init>", desc := "()V" } : Jvm.MethodName) prog_35_method_1_code (1 : Nat) (Option.none : Option Jvm.ClassFile.FieldType)) ∈ lw_all := lw_g (lw_at lw_m4 65 rfl) rfl
theorem q881 : (Jvm.Cond.methodLink "java/lang/RuntimeException" (1 : Nat) ({ cls := "java/lang/Exception", name := "<init>", desc := "()V" } : Jvm.MethodName)) ∈ lw_all := lw_g (lw_at lw_m4 66 rfl) rfl
theorem q1249 : (Jvm.Cond.instanceMethod ({ cls := "java/lang/RuntimeException", name := "<init>", desc := "(Ljava/lang/String;)V" } : Jvm.MethodName)) ∈ lw_all := lw_g (lw_at lw_m5 194 rfl) rfl
theorem q1250 : (Jvm.Cond.code ({ cls := "java/lang/RuntimeException", name := "<init>", desc := "(Ljava/lang/String;)V" } : Jvm.MethodName) prog_35_method_2_code (2 : Nat) (Option.none : Option Jvm.ClassFile.FieldType)) ∈ lw_all := lw_g (lw_at lw_m5 195 rfl) rfl
theorem q1251 : (Jvm.Cond.methodLink "java/lang/RuntimeException" (7 : Nat) ({ cls := "java/lang/Exception", name := "<init>", desc := "(Ljava/lang/String;)V" } : Jvm.MethodName)) ∈ lw_all := lw_g (lw_at lw_m5 196 rfl) rfl
theorem q1297 : (Jvm.Cond.castable "java/lang/RuntimeException" "java/lang/Throwable") ∈ lw_tbl := lw_at lw_m6 2 rfl

/-! jdk/internal/util/ArraysSupport -/
set_option maxRecDepth 100000
def RJ12 : String := "jdk/internal/util/ArraysSupport"
abbrev cJ12_newLength : ByteArray := prog_50_method_27_code
def yJ12_newLength : MethodName := ⟨RJ12, "newLength", "(III)I"⟩
def dkwJ12_newLength_1 : List UInt8 := [184, 0, 201, 172]
abbrev dktJ12_newLength_1 : List UInt8 := dkwJ12_newLength_1 ++ []
def dkwJ12_newLength_0 : List UInt8 := [26, 27, 28, 184, 0, 194, 96, 62, 3, 29, 162, 0, 11, 29, 18, 200, 163, 0, 5, 29, 172, 26, 27]
abbrev dktJ12_newLength_0 : List UInt8 := dkwJ12_newLength_0 ++ dktJ12_newLength_1
theorem dksJ12_newLength_0 : cJ12_newLength.data.toList.drop 0 = dktJ12_newLength_0 := by decide +kernel
theorem dksJ12_newLength_1 : cJ12_newLength.data.toList.drop 23 = dktJ12_newLength_1 := dk_seg dksJ12_newLength_0 23 rfl rfl
theorem dJ12_newLength_0 : decode cJ12_newLength 0 = .ok (.iload_n 0, 1) := dk_26 (dk_at dksJ12_newLength_0 0 rfl rfl)
theorem dJ12_newLength_1 : decode cJ12_newLength 1 = .ok (.iload_n 1, 1) := dk_27 (dk_at dksJ12_newLength_0 1 rfl rfl)
theorem dJ12_newLength_2 : decode cJ12_newLength 2 = .ok (.iload_n 2, 1) := dk_28 (dk_at dksJ12_newLength_0 2 rfl rfl)
theorem dJ12_newLength_3 : decode cJ12_newLength 3 = .ok (.invokestatic 194, 3) := dk_184 0 194 (dk_at dksJ12_newLength_0 3 rfl rfl)
theorem dJ12_newLength_6 : decode cJ12_newLength 6 = .ok (.iadd, 1) := dk_96 (dk_at dksJ12_newLength_0 6 rfl rfl)
theorem dJ12_newLength_7 : decode cJ12_newLength 7 = .ok (.istore_n 3, 1) := dk_62 (dk_at dksJ12_newLength_0 7 rfl rfl)
theorem dJ12_newLength_8 : decode cJ12_newLength 8 = .ok (.iconst 0, 1) := dk_3 (dk_at dksJ12_newLength_0 8 rfl rfl)
theorem dJ12_newLength_9 : decode cJ12_newLength 9 = .ok (.iload_n 3, 1) := dk_29 (dk_at dksJ12_newLength_0 9 rfl rfl)
theorem dJ12_newLength_10 : decode cJ12_newLength 10 = .ok (.if_icmp .ge 11, 3) := dk_162 0 11 (dk_at dksJ12_newLength_0 10 rfl rfl)
theorem dJ12_newLength_13 : decode cJ12_newLength 13 = .ok (.iload_n 3, 1) := dk_29 (dk_at dksJ12_newLength_0 13 rfl rfl)
theorem dJ12_newLength_14 : decode cJ12_newLength 14 = .ok (.ldc 200, 2) := dk_18 200 (dk_at dksJ12_newLength_0 14 rfl rfl)
theorem dJ12_newLength_16 : decode cJ12_newLength 16 = .ok (.if_icmp .gt 5, 3) := dk_163 0 5 (dk_at dksJ12_newLength_0 16 rfl rfl)
theorem dJ12_newLength_19 : decode cJ12_newLength 19 = .ok (.iload_n 3, 1) := dk_29 (dk_at dksJ12_newLength_0 19 rfl rfl)
theorem dJ12_newLength_20 : decode cJ12_newLength 20 = .ok (.ireturn, 1) := dk_172 (dk_at dksJ12_newLength_0 20 rfl rfl)
theorem dJ12_newLength_21 : decode cJ12_newLength 21 = .ok (.iload_n 0, 1) := dk_26 (dk_at dksJ12_newLength_0 21 rfl rfl)
theorem dJ12_newLength_22 : decode cJ12_newLength 22 = .ok (.iload_n 1, 1) := dk_27 (dk_at dksJ12_newLength_0 22 rfl rfl)
theorem dJ12_newLength_23 : decode cJ12_newLength 23 = .ok (.invokestatic 201, 3) := dk_184 0 201 (dk_at dksJ12_newLength_1 0 rfl rfl)
theorem dJ12_newLength_26 : decode cJ12_newLength 26 = .ok (.ireturn, 1) := dk_172 (dk_at dksJ12_newLength_1 3 rfl rfl)
abbrev cJ12_hugeLength : ByteArray := prog_50_method_28_code
def yJ12_hugeLength : MethodName := ⟨RJ12, "hugeLength", "(II)I"⟩
def dkwJ12_hugeLength_2 : List UInt8 := [191, 28, 18, 200, 163, 0, 6, 18, 200, 172, 28, 172]
abbrev dktJ12_hugeLength_2 : List UInt8 := dkwJ12_hugeLength_2 ++ []
def dkwJ12_hugeLength_1 : List UInt8 := [26, 182, 0, 98, 18, 208, 182, 0, 94, 27, 182, 0, 98, 18, 210, 182, 0, 94, 182, 0, 101, 183, 0, 212]
abbrev dktJ12_hugeLength_1 : List UInt8 := dkwJ12_hugeLength_1 ++ dktJ12_hugeLength_2
def dkwJ12_hugeLength_0 : List UInt8 := [26, 27, 96, 61, 28, 156, 0, 44, 187, 0, 204, 89, 187, 0, 89, 89, 183, 0, 91, 18, 206, 182, 0, 94]
abbrev dktJ12_hugeLength_0 : List UInt8 := dkwJ12_hugeLength_0 ++ dktJ12_hugeLength_1
theorem dksJ12_hugeLength_0 : cJ12_hugeLength.data.toList.drop 0 = dktJ12_hugeLength_0 := by decide +kernel
theorem dksJ12_hugeLength_1 : cJ12_hugeLength.data.toList.drop 24 = dktJ12_hugeLength_1 := dk_seg dksJ12_hugeLength_0 24 rfl rfl
theorem dksJ12_hugeLength_2 : cJ12_hugeLength.data.toList.drop 48 = dktJ12_hugeLength_2 := dk_seg dksJ12_hugeLength_1 24 rfl rfl
theorem dJ12_hugeLength_0 : decode cJ12_hugeLength 0 = .ok (.iload_n 0, 1) := dk_26 (dk_at dksJ12_hugeLength_0 0 rfl rfl)
theorem dJ12_hugeLength_1 : decode cJ12_hugeLength 1 = .ok (.iload_n 1, 1) := dk_27 (dk_at dksJ12_hugeLength_0 1 rfl rfl)
theorem dJ12_hugeLength_2 : decode cJ12_hugeLength 2 = .ok (.iadd, 1) := dk_96 (dk_at dksJ12_hugeLength_0 2 rfl rfl)
theorem dJ12_hugeLength_3 : decode cJ12_hugeLength 3 = .ok (.istore_n 2, 1) := dk_61 (dk_at dksJ12_hugeLength_0 3 rfl rfl)
theorem dJ12_hugeLength_4 : decode cJ12_hugeLength 4 = .ok (.iload_n 2, 1) := dk_28 (dk_at dksJ12_hugeLength_0 4 rfl rfl)
theorem dJ12_hugeLength_5 : decode cJ12_hugeLength 5 = .ok (.ifCond .ge 44, 3) := dk_156 0 44 (dk_at dksJ12_hugeLength_0 5 rfl rfl)
theorem dJ12_hugeLength_8 : decode cJ12_hugeLength 8 = .ok (.new 204, 3) := dk_187 0 204 (dk_at dksJ12_hugeLength_0 8 rfl rfl)
theorem dJ12_hugeLength_11 : decode cJ12_hugeLength 11 = .ok (.dup, 1) := dk_89 (dk_at dksJ12_hugeLength_0 11 rfl rfl)
theorem dJ12_hugeLength_12 : decode cJ12_hugeLength 12 = .ok (.new 89, 3) := dk_187 0 89 (dk_at dksJ12_hugeLength_0 12 rfl rfl)
theorem dJ12_hugeLength_15 : decode cJ12_hugeLength 15 = .ok (.dup, 1) := dk_89 (dk_at dksJ12_hugeLength_0 15 rfl rfl)
theorem dJ12_hugeLength_16 : decode cJ12_hugeLength 16 = .ok (.invokespecial 91, 3) := dk_183 0 91 (dk_at dksJ12_hugeLength_0 16 rfl rfl)
theorem dJ12_hugeLength_19 : decode cJ12_hugeLength 19 = .ok (.ldc 206, 2) := dk_18 206 (dk_at dksJ12_hugeLength_0 19 rfl rfl)
theorem dJ12_hugeLength_21 : decode cJ12_hugeLength 21 = .ok (.invokevirtual 94, 3) := dk_182 0 94 (dk_at dksJ12_hugeLength_0 21 rfl rfl)
theorem dJ12_hugeLength_24 : decode cJ12_hugeLength 24 = .ok (.iload_n 0, 1) := dk_26 (dk_at dksJ12_hugeLength_1 0 rfl rfl)
theorem dJ12_hugeLength_25 : decode cJ12_hugeLength 25 = .ok (.invokevirtual 98, 3) := dk_182 0 98 (dk_at dksJ12_hugeLength_1 1 rfl rfl)
theorem dJ12_hugeLength_28 : decode cJ12_hugeLength 28 = .ok (.ldc 208, 2) := dk_18 208 (dk_at dksJ12_hugeLength_1 4 rfl rfl)
theorem dJ12_hugeLength_30 : decode cJ12_hugeLength 30 = .ok (.invokevirtual 94, 3) := dk_182 0 94 (dk_at dksJ12_hugeLength_1 6 rfl rfl)
theorem dJ12_hugeLength_33 : decode cJ12_hugeLength 33 = .ok (.iload_n 1, 1) := dk_27 (dk_at dksJ12_hugeLength_1 9 rfl rfl)
theorem dJ12_hugeLength_34 : decode cJ12_hugeLength 34 = .ok (.invokevirtual 98, 3) := dk_182 0 98 (dk_at dksJ12_hugeLength_1 10 rfl rfl)
theorem dJ12_hugeLength_37 : decode cJ12_hugeLength 37 = .ok (.ldc 210, 2) := dk_18 210 (dk_at dksJ12_hugeLength_1 13 rfl rfl)
theorem dJ12_hugeLength_39 : decode cJ12_hugeLength 39 = .ok (.invokevirtual 94, 3) := dk_182 0 94 (dk_at dksJ12_hugeLength_1 15 rfl rfl)
theorem dJ12_hugeLength_42 : decode cJ12_hugeLength 42 = .ok (.invokevirtual 101, 3) := dk_182 0 101 (dk_at dksJ12_hugeLength_1 18 rfl rfl)
theorem dJ12_hugeLength_45 : decode cJ12_hugeLength 45 = .ok (.invokespecial 212, 3) := dk_183 0 212 (dk_at dksJ12_hugeLength_1 21 rfl rfl)
theorem dJ12_hugeLength_48 : decode cJ12_hugeLength 48 = .ok (.athrow, 1) := dk_191 (dk_at dksJ12_hugeLength_2 0 rfl rfl)
theorem dJ12_hugeLength_49 : decode cJ12_hugeLength 49 = .ok (.iload_n 2, 1) := dk_28 (dk_at dksJ12_hugeLength_2 1 rfl rfl)
theorem dJ12_hugeLength_50 : decode cJ12_hugeLength 50 = .ok (.ldc 200, 2) := dk_18 200 (dk_at dksJ12_hugeLength_2 2 rfl rfl)
theorem dJ12_hugeLength_52 : decode cJ12_hugeLength 52 = .ok (.if_icmp .gt 6, 3) := dk_163 0 6 (dk_at dksJ12_hugeLength_2 4 rfl rfl)
theorem dJ12_hugeLength_55 : decode cJ12_hugeLength 55 = .ok (.ldc 200, 2) := dk_18 200 (dk_at dksJ12_hugeLength_2 7 rfl rfl)
theorem dJ12_hugeLength_57 : decode cJ12_hugeLength 57 = .ok (.ireturn, 1) := dk_172 (dk_at dksJ12_hugeLength_2 9 rfl rfl)
theorem dJ12_hugeLength_58 : decode cJ12_hugeLength 58 = .ok (.iload_n 2, 1) := dk_28 (dk_at dksJ12_hugeLength_2 10 rfl rfl)
theorem dJ12_hugeLength_59 : decode cJ12_hugeLength 59 = .ok (.ireturn, 1) := dk_172 (dk_at dksJ12_hugeLength_2 11 rfl rfl)
theorem q129 : (Jvm.Cond.initialized "jdk/internal/util/ArraysSupport") ∈ lw_all := lw_g (lw_at lw_m1 34 rfl) rfl
theorem q987 : (Jvm.Cond.static ({ cls := "jdk/internal/util/ArraysSupport", name := "newLength", desc := "(III)I" } : Jvm.MethodName)) ∈ lw_all := lw_g (lw_at lw_m4 172 rfl) rfl
theorem q988 : (Jvm.Cond.code ({ cls := "jdk/internal/util/ArraysSupport", name := "newLength", desc := "(III)I" } : Jvm.MethodName) prog_50_method_27_code (4 : Nat) (Option.some Jvm.ClassFile.FieldType.int)) ∈ lw_all := lw_g (lw_at lw_m4 173 rfl) rfl
theorem q989 : (Jvm.Cond.methodLink "jdk/internal/util/ArraysSupport" (194 : Nat) ({ cls := "java/lang/Math", name := "max", desc := "(II)I" } : Jvm.MethodName)) ∈ lw_all := lw_g (lw_at lw_m4 174 rfl) rfl
theorem q990 : (Jvm.Cond.constant "jdk/internal/util/ArraysSupport" (200 : Nat) (2147483639 : Int32)) ∈ lw_all := lw_g (lw_at lw_m4 175 rfl) rfl
theorem q991 : (Jvm.Cond.methodLink "jdk/internal/util/ArraysSupport" (201 : Nat) ({ cls := "jdk/internal/util/ArraysSupport", name := "hugeLength", desc := "(II)I" } : Jvm.MethodName)) ∈ lw_all := lw_g (lw_at lw_m4 176 rfl) rfl
theorem q992 : (Jvm.Cond.static ({ cls := "jdk/internal/util/ArraysSupport", name := "hugeLength", desc := "(II)I" } : Jvm.MethodName)) ∈ lw_all := lw_g (lw_at lw_m4 177 rfl) rfl
theorem q993 : (Jvm.Cond.code ({ cls := "jdk/internal/util/ArraysSupport", name := "hugeLength", desc := "(II)I" } : Jvm.MethodName) prog_50_method_28_code (3 : Nat) (Option.some Jvm.ClassFile.FieldType.int)) ∈ lw_all := lw_g (lw_at lw_m4 178 rfl) rfl

/-! java/util/Arrays -/
set_option maxRecDepth 100000
def RJ13 : String := "java/util/Arrays"
abbrev cJ13_copyOf : ByteArray := prog_44_method_119_code
def yJ13_copyOf : MethodName := ⟨RJ13, "copyOf", "([Ljava/lang/Object;I)[Ljava/lang/Object;"⟩
def dkwJ13_copyOf_0 : List UInt8 := [42, 27, 42, 182, 0, 86, 184, 1, 44, 176]
abbrev dktJ13_copyOf_0 : List UInt8 := dkwJ13_copyOf_0 ++ []
theorem dksJ13_copyOf_0 : cJ13_copyOf.data.toList.drop 0 = dktJ13_copyOf_0 := by decide +kernel
theorem dJ13_copyOf_0 : decode cJ13_copyOf 0 = .ok (.aload_n 0, 1) := dk_42 (dk_at dksJ13_copyOf_0 0 rfl rfl)
theorem dJ13_copyOf_1 : decode cJ13_copyOf 1 = .ok (.iload_n 1, 1) := dk_27 (dk_at dksJ13_copyOf_0 1 rfl rfl)
theorem dJ13_copyOf_2 : decode cJ13_copyOf 2 = .ok (.aload_n 0, 1) := dk_42 (dk_at dksJ13_copyOf_0 2 rfl rfl)
theorem dJ13_copyOf_3 : decode cJ13_copyOf 3 = .ok (.invokevirtual 86, 3) := dk_182 0 86 (dk_at dksJ13_copyOf_0 3 rfl rfl)
theorem dJ13_copyOf_6 : decode cJ13_copyOf 6 = .ok (.invokestatic 300, 3) := dk_184 1 44 (dk_at dksJ13_copyOf_0 6 rfl rfl)
theorem dJ13_copyOf_9 : decode cJ13_copyOf 9 = .ok (.areturn, 1) := dk_176 (dk_at dksJ13_copyOf_0 9 rfl rfl)
abbrev cJ13_copyOf_2 : ByteArray := prog_44_method_120_code
def yJ13_copyOf_2 : MethodName := ⟨RJ13, "copyOf", "([Ljava/lang/Object;ILjava/lang/Class;)[Ljava/lang/Object;"⟩
def dkwJ13_copyOf_2_1 : List UInt8 := [78, 42, 3, 45, 3, 42, 190, 27, 184, 1, 48, 184, 0, 150, 45, 176]
abbrev dktJ13_copyOf_2_1 : List UInt8 := dkwJ13_copyOf_2_1 ++ []
def dkwJ13_copyOf_2_0 : List UInt8 := [44, 18, 110, 166, 0, 10, 27, 189, 0, 2, 167, 0, 14, 44, 182, 0, 90, 27, 184, 0, 95, 192, 0, 110]
abbrev dktJ13_copyOf_2_0 : List UInt8 := dkwJ13_copyOf_2_0 ++ dktJ13_copyOf_2_1
theorem dksJ13_copyOf_2_0 : cJ13_copyOf_2.data.toList.drop 0 = dktJ13_copyOf_2_0 := by decide +kernel
theorem dksJ13_copyOf_2_1 : cJ13_copyOf_2.data.toList.drop 24 = dktJ13_copyOf_2_1 := dk_seg dksJ13_copyOf_2_0 24 rfl rfl
theorem dJ13_copyOf_2_0 : decode cJ13_copyOf_2 0 = .ok (.aload_n 2, 1) := dk_44 (dk_at dksJ13_copyOf_2_0 0 rfl rfl)
theorem dJ13_copyOf_2_1 : decode cJ13_copyOf_2 1 = .ok (.ldc 110, 2) := dk_18 110 (dk_at dksJ13_copyOf_2_0 1 rfl rfl)
theorem dJ13_copyOf_2_3 : decode cJ13_copyOf_2 3 = .ok (.if_acmp .ne 10, 3) := dk_166 0 10 (dk_at dksJ13_copyOf_2_0 3 rfl rfl)
theorem dJ13_copyOf_2_6 : decode cJ13_copyOf_2 6 = .ok (.iload_n 1, 1) := dk_27 (dk_at dksJ13_copyOf_2_0 6 rfl rfl)
theorem dJ13_copyOf_2_7 : decode cJ13_copyOf_2 7 = .ok (.anewarray 2, 3) := dk_189 0 2 (dk_at dksJ13_copyOf_2_0 7 rfl rfl)
theorem dJ13_copyOf_2_10 : decode cJ13_copyOf_2 10 = .ok (.goto 14, 3) := dk_167 0 14 (dk_at dksJ13_copyOf_2_0 10 rfl rfl)
theorem dJ13_copyOf_2_13 : decode cJ13_copyOf_2 13 = .ok (.aload_n 2, 1) := dk_44 (dk_at dksJ13_copyOf_2_0 13 rfl rfl)
theorem dJ13_copyOf_2_14 : decode cJ13_copyOf_2 14 = .ok (.invokevirtual 90, 3) := dk_182 0 90 (dk_at dksJ13_copyOf_2_0 14 rfl rfl)
theorem dJ13_copyOf_2_17 : decode cJ13_copyOf_2 17 = .ok (.iload_n 1, 1) := dk_27 (dk_at dksJ13_copyOf_2_0 17 rfl rfl)
theorem dJ13_copyOf_2_18 : decode cJ13_copyOf_2 18 = .ok (.invokestatic 95, 3) := dk_184 0 95 (dk_at dksJ13_copyOf_2_0 18 rfl rfl)
theorem dJ13_copyOf_2_21 : decode cJ13_copyOf_2 21 = .ok (.checkcast 110, 3) := dk_192 0 110 (dk_at dksJ13_copyOf_2_0 21 rfl rfl)
theorem dJ13_copyOf_2_24 : decode cJ13_copyOf_2 24 = .ok (.astore_n 3, 1) := dk_78 (dk_at dksJ13_copyOf_2_1 0 rfl rfl)
theorem dJ13_copyOf_2_25 : decode cJ13_copyOf_2 25 = .ok (.aload_n 0, 1) := dk_42 (dk_at dksJ13_copyOf_2_1 1 rfl rfl)
theorem dJ13_copyOf_2_26 : decode cJ13_copyOf_2 26 = .ok (.iconst 0, 1) := dk_3 (dk_at dksJ13_copyOf_2_1 2 rfl rfl)
theorem dJ13_copyOf_2_27 : decode cJ13_copyOf_2 27 = .ok (.aload_n 3, 1) := dk_45 (dk_at dksJ13_copyOf_2_1 3 rfl rfl)
theorem dJ13_copyOf_2_28 : decode cJ13_copyOf_2 28 = .ok (.iconst 0, 1) := dk_3 (dk_at dksJ13_copyOf_2_1 4 rfl rfl)
theorem dJ13_copyOf_2_29 : decode cJ13_copyOf_2 29 = .ok (.aload_n 0, 1) := dk_42 (dk_at dksJ13_copyOf_2_1 5 rfl rfl)
theorem dJ13_copyOf_2_30 : decode cJ13_copyOf_2 30 = .ok (.arraylength, 1) := dk_190 (dk_at dksJ13_copyOf_2_1 6 rfl rfl)
theorem dJ13_copyOf_2_31 : decode cJ13_copyOf_2 31 = .ok (.iload_n 1, 1) := dk_27 (dk_at dksJ13_copyOf_2_1 7 rfl rfl)
theorem dJ13_copyOf_2_32 : decode cJ13_copyOf_2 32 = .ok (.invokestatic 304, 3) := dk_184 1 48 (dk_at dksJ13_copyOf_2_1 8 rfl rfl)
theorem dJ13_copyOf_2_35 : decode cJ13_copyOf_2 35 = .ok (.invokestatic 150, 3) := dk_184 0 150 (dk_at dksJ13_copyOf_2_1 11 rfl rfl)
theorem dJ13_copyOf_2_38 : decode cJ13_copyOf_2 38 = .ok (.aload_n 3, 1) := dk_45 (dk_at dksJ13_copyOf_2_1 14 rfl rfl)
theorem dJ13_copyOf_2_39 : decode cJ13_copyOf_2 39 = .ok (.areturn, 1) := dk_176 (dk_at dksJ13_copyOf_2_1 15 rfl rfl)
theorem q130 : (Jvm.Cond.initialized "java/util/Arrays") ∈ lw_all := lw_g (lw_at lw_m1 35 rfl) rfl
theorem q995 : (Jvm.Cond.static ({ cls := "java/util/Arrays", name := "copyOf", desc := "([Ljava/lang/Object;I)[Ljava/lang/Object;" } : Jvm.MethodName)) ∈ lw_all := lw_g (lw_at lw_m4 180 rfl) rfl
theorem q996 : (Jvm.Cond.code ({ cls := "java/util/Arrays", name := "copyOf", desc := "([Ljava/lang/Object;I)[Ljava/lang/Object;" } : Jvm.MethodName) prog_44_method_119_code (2 : Nat) (Option.some (Jvm.ClassFile.FieldType.array (Jvm.ClassFile.FieldType.object "java/lang/Object")))) ∈ lw_all := lw_g (lw_at lw_m4 181 rfl) rfl
theorem q997 : (Jvm.Cond.methodLink "java/util/Arrays" (86 : Nat) ({ cls := "java/lang/Object", name := "getClass", desc := "()Ljava/lang/Class;" } : Jvm.MethodName)) ∈ lw_all := lw_g (lw_at lw_m4 182 rfl) rfl
theorem q1027 : (Jvm.Cond.methodLink "java/util/Arrays" (300 : Nat) ({ cls := "java/util/Arrays", name := "copyOf", desc := "([Ljava/lang/Object;ILjava/lang/Class;)[Ljava/lang/Object;" } : Jvm.MethodName)) ∈ lw_all := lw_g (lw_at lw_m4 212 rfl) rfl
theorem q1028 : (Jvm.Cond.static ({ cls := "java/util/Arrays", name := "copyOf", desc := "([Ljava/lang/Object;ILjava/lang/Class;)[Ljava/lang/Object;" } : Jvm.MethodName)) ∈ lw_all := lw_g (lw_at lw_m4 213 rfl) rfl
theorem q1029 : (Jvm.Cond.code ({ cls := "java/util/Arrays", name := "copyOf", desc := "([Ljava/lang/Object;ILjava/lang/Class;)[Ljava/lang/Object;" } : Jvm.MethodName) prog_44_method_120_code (4 : Nat) (Option.some (Jvm.ClassFile.FieldType.array (Jvm.ClassFile.FieldType.object "java/lang/Object")))) ∈ lw_all := lw_g (lw_at lw_m4 214 rfl) rfl
theorem q1030 : (Jvm.Cond.classLink "java/util/Arrays" (110 : Nat) "[Ljava/lang/Object;") ∈ lw_all := lw_g (lw_at lw_m4 215 rfl) rfl
theorem q1032 : (Jvm.Cond.classLink "java/util/Arrays" (2 : Nat) "java/lang/Object") ∈ lw_all := lw_g (lw_at lw_m4 217 rfl) rfl
theorem q1033 : (Jvm.Cond.methodLink "java/util/Arrays" (304 : Nat) ({ cls := "java/lang/Math", name := "min", desc := "(II)I" } : Jvm.MethodName)) ∈ lw_all := lw_g (lw_at lw_m4 218 rfl) rfl
theorem q1036 : (Jvm.Cond.methodLink "java/util/Arrays" (150 : Nat) ({ cls := "java/lang/System", name := "arraycopy", desc := "(Ljava/lang/Object;ILjava/lang/Object;II)V" } : Jvm.MethodName)) ∈ lw_all := lw_g (lw_at lw_m4 221 rfl) rfl

/-! java/lang/ClassCastException -/
set_option maxRecDepth 100000
def RJ14 : String := "java/lang/ClassCastException"
def TJ14 : u_T := fun k => match k with
  | 0 => ("java/lang/Throwable", "backtrace", "Ljava/lang/Object;", false)
  | 1 => ("java/lang/Throwable", "detailMessage", "Ljava/lang/String;", false)
  | 2 => ("java/lang/Throwable", "cause", "Ljava/lang/Throwable;", false)
  | 3 => ("java/lang/Throwable", "stackTrace", "[Ljava/lang/StackTraceElement;", false)
  | 4 => ("java/lang/Throwable", "depth", "I", false)
  | _ => ("java/lang/Throwable", "suppressedExceptions", "Ljava/util/List;", false)
def tyJ14 : Nat → FieldType := fun k => match k with
  | 0 => .object "java/lang/Object"
  | 1 => .object "java/lang/String"
  | 2 => .object "java/lang/Throwable"
  | 3 => .array (.object "java/lang/StackTraceElement")
  | 4 => .int
  | _ => .object "java/util/List"
abbrev wsJ140 : List Cond := u_ws RJ14 TJ14 6
theorem nmJ14 : ∀ a, a < 6 → ∀ b, b < 6 → a ≠ b → (TJ14 a).2.1 ≠ (TJ14 b).2.1 := by decide +kernel
theorem tyJ14_ok : ∀ k, k < 6 → parseFieldDescriptor (TJ14 k).2.2.1 = some (tyJ14 k) := by decide +kernel
abbrev cJ14_init : ByteArray := prog_27_method_2_code
def yJ14_init : MethodName := ⟨RJ14, "<init>", "(Ljava/lang/String;)V"⟩
def dkwJ14_init_0 : List UInt8 := [42, 43, 183, 0, 7, 177]
abbrev dktJ14_init_0 : List UInt8 := dkwJ14_init_0 ++ []
theorem dksJ14_init_0 : cJ14_init.data.toList.drop 0 = dktJ14_init_0 := by decide +kernel
theorem dJ14_init_0 : decode cJ14_init 0 = .ok (.aload_n 0, 1) := dk_42 (dk_at dksJ14_init_0 0 rfl rfl)
theorem dJ14_init_1 : decode cJ14_init 1 = .ok (.aload_n 1, 1) := dk_43 (dk_at dksJ14_init_0 1 rfl rfl)
theorem dJ14_init_2 : decode cJ14_init 2 = .ok (.invokespecial 7, 3) := dk_183 0 7 (dk_at dksJ14_init_0 2 rfl rfl)
theorem dJ14_init_5 : decode cJ14_init 5 = .ok (.return_, 1) := dk_177 (dk_at dksJ14_init_0 5 rfl rfl)
theorem q132 : (Jvm.Cond.initialized "java/lang/ClassCastException") ∈ lw_all := lw_g (lw_at lw_m1 37 rfl) rfl
theorem q853 : (Jvm.Cond.selects "java/lang/ClassCastException" ({ cls := "java/lang/Throwable", name := "fillInStackTrace", desc := "()Ljava/lang/Throwable;" } : Jvm.MethodName) ({ cls := "java/lang/Throwable", name := "fillInStackTrace", desc := "()Ljava/lang/Throwable;" } : Jvm.MethodName)) ∈ lw_all := lw_g (lw_at lw_m4 38 rfl) rfl
theorem q1022 : (Jvm.Cond.selects "java/lang/ClassCastException" ({ cls := "java/lang/Object", name := "getClass", desc := "()Ljava/lang/Class;" } : Jvm.MethodName) ({ cls := "java/lang/Object", name := "getClass", desc := "()Ljava/lang/Class;" } : Jvm.MethodName)) ∈ lw_all := lw_g (lw_at lw_m4 207 rfl) rfl
theorem q1245 : (Jvm.Cond.instantiable "java/lang/ClassCastException" (6 : Nat)) ∈ lw_all := lw_g (lw_at lw_m5 190 rfl) rfl
theorem q1246 : (Jvm.Cond.instanceMethod ({ cls := "java/lang/ClassCastException", name := "<init>", desc := "(Ljava/lang/String;)V" } : Jvm.MethodName)) ∈ lw_all := lw_g (lw_at lw_m5 191 rfl) rfl
theorem q1247 : (Jvm.Cond.code ({ cls := "java/lang/ClassCastException", name := "<init>", desc := "(Ljava/lang/String;)V" } : Jvm.MethodName) prog_27_method_2_code (2 : Nat) (Option.none : Option Jvm.ClassFile.FieldType)) ∈ lw_all := lw_g (lw_at lw_m5 192 rfl) rfl
theorem q1248 : (Jvm.Cond.methodLink "java/lang/ClassCastException" (7 : Nat) ({ cls := "java/lang/RuntimeException", name := "<init>", desc := "(Ljava/lang/String;)V" } : Jvm.MethodName)) ∈ lw_all := lw_g (lw_at lw_m5 193 rfl) rfl
theorem q1257 : (Jvm.Cond.lays "java/lang/ClassCastException" "java/lang/Throwable" "backtrace" "Ljava/lang/Object;") ∈ lw_all := lw_g (lw_at lw_m5 202 rfl) rfl
theorem q1258 : (Jvm.Cond.lays "java/lang/ClassCastException" "java/lang/Throwable" "detailMessage" "Ljava/lang/String;") ∈ lw_all := lw_g (lw_at lw_m5 203 rfl) rfl
theorem q1259 : (Jvm.Cond.lays "java/lang/ClassCastException" "java/lang/Throwable" "cause" "Ljava/lang/Throwable;") ∈ lw_all := lw_g (lw_at lw_m5 204 rfl) rfl
theorem q1260 : (Jvm.Cond.lays "java/lang/ClassCastException" "java/lang/Throwable" "stackTrace" "[Ljava/lang/StackTraceElement;") ∈ lw_all := lw_g (lw_at lw_m5 205 rfl) rfl
theorem q1261 : (Jvm.Cond.lays "java/lang/ClassCastException" "java/lang/Throwable" "depth" "I") ∈ lw_all := lw_g (lw_at lw_m5 206 rfl) rfl
theorem q1262 : (Jvm.Cond.lays "java/lang/ClassCastException" "java/lang/Throwable" "suppressedExceptions" "Ljava/util/List;") ∈ lw_all := lw_g (lw_at lw_m5 207 rfl) rfl
theorem q1263 : (Jvm.Cond.superclass "java/lang/ClassCastException" "java/lang/RuntimeException") ∈ lw_all := lw_g (lw_at lw_m5 208 rfl) rfl
theorem q1264 : (Jvm.Cond.castable "java/lang/ClassCastException" "java/lang/ClassCastException") ∈ lw_tbl := lw_at lw_m5 209 rfl
theorem q1265 : (Jvm.Cond.selects "java/lang/ClassCastException" ({ cls := "java/lang/Throwable", name := "fillInStackTrace", desc := "(I)Ljava/lang/Throwable;" } : Jvm.MethodName) ({ cls := "java/lang/Throwable", name := "fillInStackTrace", desc := "(I)Ljava/lang/Throwable;" } : Jvm.MethodName)) ∈ lw_all := lw_g (lw_at lw_m5 210 rfl) rfl
theorem q2195 : (Jvm.Cond.castable "java/lang/ClassCastException" "java/lang/Object") ∈ lw_tbl := lw_at lw_m9 180 rfl
theorem in_J14 : ∀ w ∈ wsJ140, w ∈ lw_all := lw_in wsJ140 [1257, 1258, 1259, 1260, 1261, 1262] (by decide +kernel) (by decide +kernel)

/-! java/lang/NullPointerException -/
set_option maxRecDepth 100000
def RJ15 : String := "java/lang/NullPointerException"
def TJ15 : u_T := fun k => match k with
  | 0 => ("java/lang/Throwable", "backtrace", "Ljava/lang/Object;", false)
  | 1 => ("java/lang/Throwable", "detailMessage", "Ljava/lang/String;", false)
  | 2 => ("java/lang/Throwable", "cause", "Ljava/lang/Throwable;", false)
  | 3 => ("java/lang/Throwable", "stackTrace", "[Ljava/lang/StackTraceElement;", false)
  | 4 => ("java/lang/Throwable", "depth", "I", false)
  | 5 => ("java/lang/Throwable", "suppressedExceptions", "Ljava/util/List;", false)
  | 6 => ("java/lang/NullPointerException", "extendedMessageState", "I", false)
  | _ => ("java/lang/NullPointerException", "extendedMessage", "Ljava/lang/String;", false)
def tyJ15 : Nat → FieldType := fun k => match k with
  | 0 => .object "java/lang/Object"
  | 1 => .object "java/lang/String"
  | 2 => .object "java/lang/Throwable"
  | 3 => .array (.object "java/lang/StackTraceElement")
  | 4 => .int
  | 5 => .object "java/util/List"
  | 6 => .int
  | _ => .object "java/lang/String"
abbrev wsJ150 : List Cond := u_ws RJ15 TJ15 8
theorem nmJ15 : ∀ a, a < 8 → ∀ b, b < 8 → a ≠ b → (TJ15 a).2.1 ≠ (TJ15 b).2.1 := by decide +kernel
theorem tyJ15_ok : ∀ k, k < 8 → parseFieldDescriptor (TJ15 k).2.2.1 = some (tyJ15 k) := by decide +kernel
abbrev cJ15_init : ByteArray := prog_34_method_1_code
def yJ15_init : MethodName := ⟨RJ15, "<init>", "()V"⟩
theorem dJ15_init_0 : decode cJ15_init 0 = .ok (.aload_n 0, 1) := by decide +kernel
theorem dJ15_init_1 : decode cJ15_init 1 = .ok (.invokespecial 1, 3) := by decide +kernel
theorem dJ15_init_4 : decode cJ15_init 4 = .ok (.return_, 1) := by decide +kernel
theorem q133 : (Jvm.Cond.initialized "java/lang/NullPointerException") ∈ lw_all := lw_g (lw_at lw_m1 38 rfl) rfl
theorem q855 : (Jvm.Cond.selects "java/lang/NullPointerException" ({ cls := "java/lang/Throwable", name := "fillInStackTrace", desc := "()Ljava/lang/Throwable;" } : Jvm.MethodName) ({ cls := "java/lang/NullPointerException", name := "fillInStackTrace", desc := "()Ljava/lang/Throwable;" } : Jvm.MethodName)) ∈ lw_all := lw_g (lw_at lw_m4 40 rfl) rfl
theorem q856 : (Jvm.Cond.instanceMethod ({ cls := "java/lang/NullPointerException", name := "fillInStackTrace", desc := "()Ljava/lang/Throwable;" } : Jvm.MethodName)) ∈ lw_all := lw_g (lw_at lw_m4 41 rfl) rfl
theorem q857 : (Jvm.Cond.codeSync ({ cls := "java/lang/NullPointerException", name := "fillInStackTrace", desc := "()Ljava/lang/Throwable;" } : Jvm.MethodName) prog_34_method_3_code (1 : Nat) (Option.some (Jvm.ClassFile.FieldType.object "java/lang/Throwable"))) ∈ lw_all := lw_g (lw_at lw_m4 42 rfl) rfl
theorem q858 : (Jvm.Cond.methodLink "java/lang/NullPointerException" (16 : Nat) ({ cls := "java/lang/NullPointerException", name := "getExtendedNPEMessage", desc := "()Ljava/lang/String;" } : Jvm.MethodName)) ∈ lw_all := lw_g (lw_at lw_m4 43 rfl) rfl
theorem q859 : (Jvm.Cond.privateMethod ({ cls := "java/lang/NullPointerException", name := "getExtendedNPEMessage", desc := "()Ljava/lang/String;" } : Jvm.MethodName)) ∈ lw_tbl := lw_at lw_m4 44 rfl
theorem q860 : (Jvm.Cond.instanceMethod ({ cls := "java/lang/NullPointerException", name := "getExtendedNPEMessage", desc := "()Ljava/lang/String;" } : Jvm.MethodName)) ∈ lw_all := lw_g (lw_at lw_m4 45 rfl) rfl
theorem q861 : (Jvm.Cond.instantiable "java/lang/NullPointerException" (8 : Nat)) ∈ lw_all := lw_g (lw_at lw_m4 46 rfl) rfl
theorem q862 : (Jvm.Cond.native ({ cls := "java/lang/NullPointerException", name := "getExtendedNPEMessage", desc := "()Ljava/lang/String;" } : Jvm.MethodName)) ∈ lw_all := lw_g (lw_at lw_m4 47 rfl) rfl
theorem q863 : (Jvm.Cond.methodLink "java/lang/NullPointerException" (24 : Nat) ({ cls := "java/lang/RuntimeException", name := "fillInStackTrace", desc := "()Ljava/lang/Throwable;" } : Jvm.MethodName)) ∈ lw_all := lw_g (lw_at lw_m4 48 rfl) rfl
theorem q866 : (Jvm.Cond.superclass "java/lang/NullPointerException" "java/lang/RuntimeException") ∈ lw_all := lw_g (lw_at lw_m4 51 rfl) rfl
theorem q1024 : (Jvm.Cond.selects "java/lang/NullPointerException" ({ cls := "java/lang/Object", name := "getClass", desc := "()Ljava/lang/Class;" } : Jvm.MethodName) ({ cls := "java/lang/Object", name := "getClass", desc := "()Ljava/lang/Class;" } : Jvm.MethodName)) ∈ lw_all := lw_g (lw_at lw_m4 209 rfl) rfl
theorem q1280 : (Jvm.Cond.instanceMethod ({ cls := "java/lang/NullPointerException", name := "<init>", desc := "()V" } : Jvm.MethodName)) ∈ lw_all := lw_g (lw_at lw_m5 225 rfl) rfl
theorem q1281 : (Jvm.Cond.code ({ cls := "java/lang/NullPointerException", name := "<init>", desc := "()V" } : Jvm.MethodName) prog_34_method_1_code (1 : Nat) (Option.none : Option Jvm.ClassFile.FieldType)) ∈ lw_all := lw_g (lw_at lw_m5 226 rfl) rfl
theorem q1282 : (Jvm.Cond.methodLink "java/lang/NullPointerException" (1 : Nat) ({ cls := "java/lang/RuntimeException", name := "<init>", desc := "()V" } : Jvm.MethodName)) ∈ lw_all := lw_g (lw_at lw_m5 227 rfl) rfl
theorem q1283 : (Jvm.Cond.fieldLink "java/lang/NullPointerException" (10 : Nat) "java/lang/NullPointerException" "extendedMessageState" "I") ∈ lw_all := lw_g (lw_at lw_m5 228 rfl) rfl
theorem q1284 : (Jvm.Cond.fieldLink "java/lang/NullPointerException" (20 : Nat) "java/lang/NullPointerException" "extendedMessage" "Ljava/lang/String;") ∈ lw_all := lw_g (lw_at lw_m5 229 rfl) rfl
theorem q1285 : (Jvm.Cond.lays "java/lang/NullPointerException" "java/lang/NullPointerException" "extendedMessageState" "I") ∈ lw_all := lw_g (lw_at lw_m5 230 rfl) rfl
theorem q1286 : (Jvm.Cond.soleField "java/lang/NullPointerException" "extendedMessageState") ∈ lw_all := lw_g (lw_at lw_m5 231 rfl) rfl
theorem q1287 : (Jvm.Cond.lays "java/lang/NullPointerException" "java/lang/NullPointerException" "extendedMessage" "Ljava/lang/String;") ∈ lw_all := lw_g (lw_at lw_m5 232 rfl) rfl
theorem q1288 : (Jvm.Cond.soleField "java/lang/NullPointerException" "extendedMessage") ∈ lw_all := lw_g (lw_at lw_m5 233 rfl) rfl
theorem q1289 : (Jvm.Cond.lays "java/lang/NullPointerException" "java/lang/Throwable" "backtrace" "Ljava/lang/Object;") ∈ lw_all := lw_g (lw_at lw_m5 234 rfl) rfl
theorem q1290 : (Jvm.Cond.lays "java/lang/NullPointerException" "java/lang/Throwable" "detailMessage" "Ljava/lang/String;") ∈ lw_all := lw_g (lw_at lw_m5 235 rfl) rfl
theorem q1291 : (Jvm.Cond.lays "java/lang/NullPointerException" "java/lang/Throwable" "cause" "Ljava/lang/Throwable;") ∈ lw_all := lw_g (lw_at lw_m5 236 rfl) rfl
theorem q1292 : (Jvm.Cond.lays "java/lang/NullPointerException" "java/lang/Throwable" "stackTrace" "[Ljava/lang/StackTraceElement;") ∈ lw_all := lw_g (lw_at lw_m5 237 rfl) rfl
theorem q1293 : (Jvm.Cond.lays "java/lang/NullPointerException" "java/lang/Throwable" "depth" "I") ∈ lw_all := lw_g (lw_at lw_m5 238 rfl) rfl
theorem q1294 : (Jvm.Cond.lays "java/lang/NullPointerException" "java/lang/Throwable" "suppressedExceptions" "Ljava/util/List;") ∈ lw_all := lw_g (lw_at lw_m5 239 rfl) rfl
theorem q1295 : (Jvm.Cond.castable "java/lang/NullPointerException" "java/lang/NullPointerException") ∈ lw_tbl := lw_at lw_m6 0 rfl
theorem q1296 : (Jvm.Cond.selects "java/lang/NullPointerException" ({ cls := "java/lang/Throwable", name := "fillInStackTrace", desc := "(I)Ljava/lang/Throwable;" } : Jvm.MethodName) ({ cls := "java/lang/Throwable", name := "fillInStackTrace", desc := "(I)Ljava/lang/Throwable;" } : Jvm.MethodName)) ∈ lw_all := lw_g (lw_at lw_m6 1 rfl) rfl
theorem q2196 : (Jvm.Cond.castable "java/lang/NullPointerException" "java/lang/Object") ∈ lw_tbl := lw_at lw_m9 181 rfl
theorem in_J15 : ∀ w ∈ wsJ150, w ∈ lw_all := lw_in wsJ150 [1289, 1290, 1291, 1292, 1293, 1294, 1285, 1287] (by decide +kernel) (by decide +kernel)

/-! java/lang/NegativeArraySizeException -/
set_option maxRecDepth 100000
def RJ16 : String := "java/lang/NegativeArraySizeException"
def TJ16 : u_T := fun k => match k with
  | 0 => ("java/lang/Throwable", "backtrace", "Ljava/lang/Object;", false)
  | 1 => ("java/lang/Throwable", "detailMessage", "Ljava/lang/String;", false)
  | 2 => ("java/lang/Throwable", "cause", "Ljava/lang/Throwable;", false)
  | 3 => ("java/lang/Throwable", "stackTrace", "[Ljava/lang/StackTraceElement;", false)
  | 4 => ("java/lang/Throwable", "depth", "I", false)
  | _ => ("java/lang/Throwable", "suppressedExceptions", "Ljava/util/List;", false)
def tyJ16 : Nat → FieldType := fun k => match k with
  | 0 => .object "java/lang/Object"
  | 1 => .object "java/lang/String"
  | 2 => .object "java/lang/Throwable"
  | 3 => .array (.object "java/lang/StackTraceElement")
  | 4 => .int
  | _ => .object "java/util/List"
abbrev wsJ160 : List Cond := u_ws RJ16 TJ16 6
theorem nmJ16 : ∀ a, a < 6 → ∀ b, b < 6 → a ≠ b → (TJ16 a).2.1 ≠ (TJ16 b).2.1 := by decide +kernel
theorem tyJ16_ok : ∀ k, k < 6 → parseFieldDescriptor (TJ16 k).2.2.1 = some (tyJ16 k) := by decide +kernel
abbrev cJ16_init : ByteArray := prog_33_method_2_code
def yJ16_init : MethodName := ⟨RJ16, "<init>", "(Ljava/lang/String;)V"⟩
def dkwJ16_init_0 : List UInt8 := [42, 43, 183, 0, 7, 177]
abbrev dktJ16_init_0 : List UInt8 := dkwJ16_init_0 ++ []
theorem dksJ16_init_0 : cJ16_init.data.toList.drop 0 = dktJ16_init_0 := by decide +kernel
theorem dJ16_init_0 : decode cJ16_init 0 = .ok (.aload_n 0, 1) := dk_42 (dk_at dksJ16_init_0 0 rfl rfl)
theorem dJ16_init_1 : decode cJ16_init 1 = .ok (.aload_n 1, 1) := dk_43 (dk_at dksJ16_init_0 1 rfl rfl)
theorem dJ16_init_2 : decode cJ16_init 2 = .ok (.invokespecial 7, 3) := dk_183 0 7 (dk_at dksJ16_init_0 2 rfl rfl)
theorem dJ16_init_5 : decode cJ16_init 5 = .ok (.return_, 1) := dk_177 (dk_at dksJ16_init_0 5 rfl rfl)
theorem q134 : (Jvm.Cond.initialized "java/lang/NegativeArraySizeException") ∈ lw_all := lw_g (lw_at lw_m1 39 rfl) rfl
theorem q854 : (Jvm.Cond.selects "java/lang/NegativeArraySizeException" ({ cls := "java/lang/Throwable", name := "fillInStackTrace", desc := "()Ljava/lang/Throwable;" } : Jvm.MethodName) ({ cls := "java/lang/Throwable", name := "fillInStackTrace", desc := "()Ljava/lang/Throwable;" } : Jvm.MethodName)) ∈ lw_all := lw_g (lw_at lw_m4 39 rfl) rfl
theorem q1023 : (Jvm.Cond.selects "java/lang/NegativeArraySizeException" ({ cls := "java/lang/Object", name := "getClass", desc := "()Ljava/lang/Class;" } : Jvm.MethodName) ({ cls := "java/lang/Object", name := "getClass", desc := "()Ljava/lang/Class;" } : Jvm.MethodName)) ∈ lw_all := lw_g (lw_at lw_m4 208 rfl) rfl
theorem q1410 : (Jvm.Cond.instantiable "java/lang/NegativeArraySizeException" (6 : Nat)) ∈ lw_all := lw_g (lw_at lw_m6 115 rfl) rfl
theorem q1411 : (Jvm.Cond.instanceMethod ({ cls := "java/lang/NegativeArraySizeException", name := "<init>", desc := "(Ljava/lang/String;)V" } : Jvm.MethodName)) ∈ lw_all := lw_g (lw_at lw_m6 116 rfl) rfl
theorem q1412 : (Jvm.Cond.code ({ cls := "java/lang/NegativeArraySizeException", name := "<init>", desc := "(Ljava/lang/String;)V" } : Jvm.MethodName) prog_33_method_2_code (2 : Nat) (Option.none : Option Jvm.ClassFile.FieldType)) ∈ lw_all := lw_g (lw_at lw_m6 117 rfl) rfl
theorem q1413 : (Jvm.Cond.methodLink "java/lang/NegativeArraySizeException" (7 : Nat) ({ cls := "java/lang/RuntimeException", name := "<init>", desc := "(Ljava/lang/String;)V" } : Jvm.MethodName)) ∈ lw_all := lw_g (lw_at lw_m6 118 rfl) rfl
theorem q1414 : (Jvm.Cond.lays "java/lang/NegativeArraySizeException" "java/lang/Throwable" "backtrace" "Ljava/lang/Object;") ∈ lw_all := lw_g (lw_at lw_m6 119 rfl) rfl
theorem q1415 : (Jvm.Cond.lays "java/lang/NegativeArraySizeException" "java/lang/Throwable" "detailMessage" "Ljava/lang/String;") ∈ lw_all := lw_g (lw_at lw_m6 120 rfl) rfl
theorem q1416 : (Jvm.Cond.lays "java/lang/NegativeArraySizeException" "java/lang/Throwable" "cause" "Ljava/lang/Throwable;") ∈ lw_all := lw_g (lw_at lw_m6 121 rfl) rfl
theorem q1417 : (Jvm.Cond.lays "java/lang/NegativeArraySizeException" "java/lang/Throwable" "stackTrace" "[Ljava/lang/StackTraceElement;") ∈ lw_all := lw_g (lw_at lw_m6 122 rfl) rfl
theorem q1418 : (Jvm.Cond.lays "java/lang/NegativeArraySizeException" "java/lang/Throwable" "depth" "I") ∈ lw_all := lw_g (lw_at lw_m6 123 rfl) rfl
theorem q1419 : (Jvm.Cond.lays "java/lang/NegativeArraySizeException" "java/lang/Throwable" "suppressedExceptions" "Ljava/util/List;") ∈ lw_all := lw_g (lw_at lw_m6 124 rfl) rfl
theorem q1420 : (Jvm.Cond.superclass "java/lang/NegativeArraySizeException" "java/lang/RuntimeException") ∈ lw_all := lw_g (lw_at lw_m6 125 rfl) rfl
theorem q1421 : (Jvm.Cond.castable "java/lang/NegativeArraySizeException" "java/lang/NegativeArraySizeException") ∈ lw_tbl := lw_at lw_m6 126 rfl
theorem q1422 : (Jvm.Cond.selects "java/lang/NegativeArraySizeException" ({ cls := "java/lang/Throwable", name := "fillInStackTrace", desc := "(I)Ljava/lang/Throwable;" } : Jvm.MethodName) ({ cls := "java/lang/Throwable", name := "fillInStackTrace", desc := "(I)Ljava/lang/Throwable;" } : Jvm.MethodName)) ∈ lw_all := lw_g (lw_at lw_m6 127 rfl) rfl
theorem q2197 : (Jvm.Cond.castable "java/lang/NegativeArraySizeException" "java/lang/Object") ∈ lw_tbl := lw_at lw_m9 182 rfl
theorem in_J16 : ∀ w ∈ wsJ160, w ∈ lw_all := lw_in wsJ160 [1414, 1415, 1416, 1417, 1418, 1419] (by decide +kernel) (by decide +kernel)

/-! java/lang/ArrayStoreException -/
set_option maxRecDepth 100000
def RJ17 : String := "java/lang/ArrayStoreException"
def TJ17 : u_T := fun k => match k with
  | 0 => ("java/lang/Throwable", "backtrace", "Ljava/lang/Object;", false)
  | 1 => ("java/lang/Throwable", "detailMessage", "Ljava/lang/String;", false)
  | 2 => ("java/lang/Throwable", "cause", "Ljava/lang/Throwable;", false)
  | 3 => ("java/lang/Throwable", "stackTrace", "[Ljava/lang/StackTraceElement;", false)
  | 4 => ("java/lang/Throwable", "depth", "I", false)
  | _ => ("java/lang/Throwable", "suppressedExceptions", "Ljava/util/List;", false)
def tyJ17 : Nat → FieldType := fun k => match k with
  | 0 => .object "java/lang/Object"
  | 1 => .object "java/lang/String"
  | 2 => .object "java/lang/Throwable"
  | 3 => .array (.object "java/lang/StackTraceElement")
  | 4 => .int
  | _ => .object "java/util/List"
abbrev wsJ170 : List Cond := u_ws RJ17 TJ17 6
theorem nmJ17 : ∀ a, a < 6 → ∀ b, b < 6 → a ≠ b → (TJ17 a).2.1 ≠ (TJ17 b).2.1 := by decide +kernel
theorem tyJ17_ok : ∀ k, k < 6 → parseFieldDescriptor (TJ17 k).2.2.1 = some (tyJ17 k) := by decide +kernel
abbrev cJ17_init : ByteArray := prog_26_method_2_code
def yJ17_init : MethodName := ⟨RJ17, "<init>", "(Ljava/lang/String;)V"⟩
def dkwJ17_init_0 : List UInt8 := [42, 43, 183, 0, 7, 177]
abbrev dktJ17_init_0 : List UInt8 := dkwJ17_init_0 ++ []
theorem dksJ17_init_0 : cJ17_init.data.toList.drop 0 = dktJ17_init_0 := by decide +kernel
theorem dJ17_init_0 : decode cJ17_init 0 = .ok (.aload_n 0, 1) := dk_42 (dk_at dksJ17_init_0 0 rfl rfl)
theorem dJ17_init_1 : decode cJ17_init 1 = .ok (.aload_n 1, 1) := dk_43 (dk_at dksJ17_init_0 1 rfl rfl)
theorem dJ17_init_2 : decode cJ17_init 2 = .ok (.invokespecial 7, 3) := dk_183 0 7 (dk_at dksJ17_init_0 2 rfl rfl)
theorem dJ17_init_5 : decode cJ17_init 5 = .ok (.return_, 1) := dk_177 (dk_at dksJ17_init_0 5 rfl rfl)
theorem q135 : (Jvm.Cond.initialized "java/lang/ArrayStoreException") ∈ lw_all := lw_g (lw_at lw_m1 40 rfl) rfl
theorem q852 : (Jvm.Cond.selects "java/lang/ArrayStoreException" ({ cls := "java/lang/Throwable", name := "fillInStackTrace", desc := "()Ljava/lang/Throwable;" } : Jvm.MethodName) ({ cls := "java/lang/Throwable", name := "fillInStackTrace", desc := "()Ljava/lang/Throwable;" } : Jvm.MethodName)) ∈ lw_all := lw_g (lw_at lw_m4 37 rfl) rfl
theorem q1021 : (Jvm.Cond.selects "java/lang/ArrayStoreException" ({ cls := "java/lang/Object", name := "getClass", desc := "()Ljava/lang/Class;" } : Jvm.MethodName) ({ cls := "java/lang/Object", name := "getClass", desc := "()Ljava/lang/Class;" } : Jvm.MethodName)) ∈ lw_all := lw_g (lw_at lw_m4 206 rfl) rfl
theorem q1463 : (Jvm.Cond.instantiable "java/lang/ArrayStoreException" (6 : Nat)) ∈ lw_all := lw_g (lw_at lw_m6 168 rfl) rfl
theorem q1464 : (Jvm.Cond.instanceMethod ({ cls := "java/lang/ArrayStoreException", name := "<init>", desc := "(Ljava/lang/String;)V" } : Jvm.MethodName)) ∈ lw_all := lw_g (lw_at lw_m6 169 rfl) rfl
theorem q1465 : (Jvm.Cond.code ({ cls := "java/lang/ArrayStoreException", name := "<init>", desc := "(Ljava/lang/String;)V" } : Jvm.MethodName) prog_26_method_2_code (2 : Nat) (Option.none : Option Jvm.ClassFile.FieldType)) ∈ lw_all := lw_g (lw_at lw_m6 170 rfl) rfl
theorem q1466 : (Jvm.Cond.methodLink "java/lang/ArrayStoreException" (7 : Nat) ({ cls := "java/lang/RuntimeException", name := "<init>", desc := "(Ljava/lang/String;)V" } : Jvm.MethodName)) ∈ lw_all := lw_g (lw_at lw_m6 171 rfl) rfl
theorem q1467 : (Jvm.Cond.lays "java/lang/ArrayStoreException" "java/lang/Throwable" "backtrace" "Ljava/lang/Object;") ∈ lw_all := lw_g (lw_at lw_m6 172 rfl) rfl
theorem q1468 : (Jvm.Cond.lays "java/lang/ArrayStoreException" "java/lang/Throwable" "detailMessage" "Ljava/lang/String;") ∈ lw_all := lw_g (lw_at lw_m6 173 rfl) rfl
theorem q1469 : (Jvm.Cond.lays "java/lang/ArrayStoreException" "java/lang/Throwable" "cause" "Ljava/lang/Throwable;") ∈ lw_all := lw_g (lw_at lw_m6 174 rfl) rfl
theorem q1470 : (Jvm.Cond.lays "java/lang/ArrayStoreException" "java/lang/Throwable" "stackTrace" "[Ljava/lang/StackTraceElement;") ∈ lw_all := lw_g (lw_at lw_m6 175 rfl) rfl
theorem q1471 : (Jvm.Cond.lays "java/lang/ArrayStoreException" "java/lang/Throwable" "depth" "I") ∈ lw_all := lw_g (lw_at lw_m6 176 rfl) rfl
theorem q1472 : (Jvm.Cond.lays "java/lang/ArrayStoreException" "java/lang/Throwable" "suppressedExceptions" "Ljava/util/List;") ∈ lw_all := lw_g (lw_at lw_m6 177 rfl) rfl
theorem q1473 : (Jvm.Cond.superclass "java/lang/ArrayStoreException" "java/lang/RuntimeException") ∈ lw_all := lw_g (lw_at lw_m6 178 rfl) rfl
theorem q1474 : (Jvm.Cond.castable "java/lang/ArrayStoreException" "java/lang/ArrayStoreException") ∈ lw_tbl := lw_at lw_m6 179 rfl
theorem q1475 : (Jvm.Cond.selects "java/lang/ArrayStoreException" ({ cls := "java/lang/Throwable", name := "fillInStackTrace", desc := "(I)Ljava/lang/Throwable;" } : Jvm.MethodName) ({ cls := "java/lang/Throwable", name := "fillInStackTrace", desc := "(I)Ljava/lang/Throwable;" } : Jvm.MethodName)) ∈ lw_all := lw_g (lw_at lw_m6 180 rfl) rfl
theorem q2198 : (Jvm.Cond.castable "java/lang/ArrayStoreException" "java/lang/Object") ∈ lw_tbl := lw_at lw_m9 183 rfl
theorem in_J17 : ∀ w ∈ wsJ170, w ∈ lw_all := lw_in wsJ170 [1467, 1468, 1469, 1470, 1471, 1472] (by decide +kernel) (by decide +kernel)

/-! java/lang/IndexOutOfBoundsException -/
set_option maxRecDepth 100000
def RJ18 : String := "java/lang/IndexOutOfBoundsException"
abbrev cJ18_init : ByteArray := prog_30_method_2_code
def yJ18_init : MethodName := ⟨RJ18, "<init>", "(Ljava/lang/String;)V"⟩
def dkwJ18_init_0 : List UInt8 := [42, 43, 183, 0, 7, 177]
abbrev dktJ18_init_0 : List UInt8 := dkwJ18_init_0 ++ []
theorem dksJ18_init_0 : cJ18_init.data.toList.drop 0 = dktJ18_init_0 := by decide +kernel
theorem dJ18_init_0 : decode cJ18_init 0 = .ok (.aload_n 0, 1) := dk_42 (dk_at dksJ18_init_0 0 rfl rfl)
theorem dJ18_init_1 : decode cJ18_init 1 = .ok (.aload_n 1, 1) := dk_43 (dk_at dksJ18_init_0 1 rfl rfl)
theorem dJ18_init_2 : decode cJ18_init 2 = .ok (.invokespecial 7, 3) := dk_183 0 7 (dk_at dksJ18_init_0 2 rfl rfl)
theorem dJ18_init_5 : decode cJ18_init 5 = .ok (.return_, 1) := dk_177 (dk_at dksJ18_init_0 5 rfl rfl)
theorem q136 : (Jvm.Cond.initialized "java/lang/IndexOutOfBoundsException") ∈ lw_all := lw_g (lw_at lw_m1 41 rfl) rfl
theorem q1481 : (Jvm.Cond.instanceMethod ({ cls := "java/lang/IndexOutOfBoundsException", name := "<init>", desc := "(Ljava/lang/String;)V" } : Jvm.MethodName)) ∈ lw_all := lw_g (lw_at lw_m6 186 rfl) rfl
theorem q1482 : (Jvm.Cond.code ({ cls := "java/lang/IndexOutOfBoundsException", name := "<init>", desc := "(Ljava/lang/String;)V" } : Jvm.MethodName) prog_30_method_2_code (2 : Nat) (Option.none : Option Jvm.ClassFile.FieldType)) ∈ lw_all := lw_g (lw_at lw_m6 187 rfl) rfl
theorem q1483 : (Jvm.Cond.methodLink "java/lang/IndexOutOfBoundsException" (7 : Nat) ({ cls := "java/lang/RuntimeException", name := "<init>", desc := "(Ljava/lang/String;)V" } : Jvm.MethodName)) ∈ lw_all := lw_g (lw_at lw_m6 188 rfl) rfl
theorem q1492 : (Jvm.Cond.declares ({ cls := "java/lang/IndexOutOfBoundsException", name := "<init>", desc := "()V" } : Jvm.MethodName)) ∈ lw_tbl := lw_at lw_m6 197 rfl
theorem q1493 : (Jvm.Cond.declares ({ cls := "java/lang/IndexOutOfBoundsException", name := "<init>", desc := "(Ljava/lang/String;)V" } : Jvm.MethodName)) ∈ lw_tbl := lw_at lw_m6 198 rfl

/-! java/lang/ArrayIndexOutOfBoundsException -/
set_option maxRecDepth 100000
def RJ19 : String := "java/lang/ArrayIndexOutOfBoundsException"
def TJ19 : u_T := fun k => match k with
  | 0 => ("java/lang/Throwable", "backtrace", "Ljava/lang/Object;", false)
  | 1 => ("java/lang/Throwable", "detailMessage", "Ljava/lang/String;", false)
  | 2 => ("java/lang/Throwable", "cause", "Ljava/lang/Throwable;", false)
  | 3 => ("java/lang/Throwable", "stackTrace", "[Ljava/lang/StackTraceElement;", false)
  | 4 => ("java/lang/Throwable", "depth", "I", false)
  | _ => ("java/lang/Throwable", "suppressedExceptions", "Ljava/util/List;", false)
def tyJ19 : Nat → FieldType := fun k => match k with
  | 0 => .object "java/lang/Object"
  | 1 => .object "java/lang/String"
  | 2 => .object "java/lang/Throwable"
  | 3 => .array (.object "java/lang/StackTraceElement")
  | 4 => .int
  | _ => .object "java/util/List"
abbrev wsJ190 : List Cond := u_ws RJ19 TJ19 6
theorem nmJ19 : ∀ a, a < 6 → ∀ b, b < 6 → a ≠ b → (TJ19 a).2.1 ≠ (TJ19 b).2.1 := by decide +kernel
theorem tyJ19_ok : ∀ k, k < 6 → parseFieldDescriptor (TJ19 k).2.2.1 = some (tyJ19 k) := by decide +kernel
abbrev cJ19_init : ByteArray := prog_25_method_2_code
def yJ19_init : MethodName := ⟨RJ19, "<init>", "(Ljava/lang/String;)V"⟩
def dkwJ19_init_0 : List UInt8 := [42, 43, 183, 0, 7, 177]
abbrev dktJ19_init_0 : List UInt8 := dkwJ19_init_0 ++ []
theorem dksJ19_init_0 : cJ19_init.data.toList.drop 0 = dktJ19_init_0 := by decide +kernel
theorem dJ19_init_0 : decode cJ19_init 0 = .ok (.aload_n 0, 1) := dk_42 (dk_at dksJ19_init_0 0 rfl rfl)
theorem dJ19_init_1 : decode cJ19_init 1 = .ok (.aload_n 1, 1) := dk_43 (dk_at dksJ19_init_0 1 rfl rfl)
theorem dJ19_init_2 : decode cJ19_init 2 = .ok (.invokespecial 7, 3) := dk_183 0 7 (dk_at dksJ19_init_0 2 rfl rfl)
theorem dJ19_init_5 : decode cJ19_init 5 = .ok (.return_, 1) := dk_177 (dk_at dksJ19_init_0 5 rfl rfl)
theorem q137 : (Jvm.Cond.initialized "java/lang/ArrayIndexOutOfBoundsException") ∈ lw_all := lw_g (lw_at lw_m1 42 rfl) rfl
theorem q851 : (Jvm.Cond.selects "java/lang/ArrayIndexOutOfBoundsException" ({ cls := "java/lang/Throwable", name := "fillInStackTrace", desc := "()Ljava/lang/Throwable;" } : Jvm.MethodName) ({ cls := "java/lang/Throwable", name := "fillInStackTrace", desc := "()Ljava/lang/Throwable;" } : Jvm.MethodName)) ∈ lw_all := lw_g (lw_at lw_m4 36 rfl) rfl
theorem q1020 : (Jvm.Cond.selects "java/lang/ArrayIndexOutOfBoundsException" ({ cls := "java/lang/Object", name := "getClass", desc := "()Ljava/lang/Class;" } : Jvm.MethodName) ({ cls := "java/lang/Object", name := "getClass", desc := "()Ljava/lang/Class;" } : Jvm.MethodName)) ∈ lw_all := lw_g (lw_at lw_m4 205 rfl) rfl
theorem q1477 : (Jvm.Cond.instantiable "java/lang/ArrayIndexOutOfBoundsException" (6 : Nat)) ∈ lw_all := lw_g (lw_at lw_m6 182 rfl) rfl
theorem q1478 : (Jvm.Cond.instanceMethod ({ cls := "java/lang/ArrayIndexOutOfBoundsException", name := "<init>", desc := "(Ljava/lang/String;)V" } : Jvm.MethodName)) ∈ lw_all := lw_g (lw_at lw_m6 183 rfl) rfl
theorem q1479 : (Jvm.Cond.code ({ cls := "java/lang/ArrayIndexOutOfBoundsException", name := "<init>", desc := "(Ljava/lang/String;)V" } : Jvm.MethodName) prog_25_method_2_code (2 : Nat) (Option.none : Option Jvm.ClassFile.FieldType)) ∈ lw_all := lw_g (lw_at lw_m6 184 rfl) rfl
theorem q1480 : (Jvm.Cond.methodLink "java/lang/ArrayIndexOutOfBoundsException" (7 : Nat) ({ cls := "java/lang/IndexOutOfBoundsException", name := "<init>", desc := "(Ljava/lang/String;)V" } : Jvm.MethodName)) ∈ lw_all := lw_g (lw_at lw_m6 185 rfl) rfl
theorem q1484 : (Jvm.Cond.lays "java/lang/ArrayIndexOutOfBoundsException" "java/lang/Throwable" "backtrace" "Ljava/lang/Object;") ∈ lw_all := lw_g (lw_at lw_m6 189 rfl) rfl
theorem q1485 : (Jvm.Cond.lays "java/lang/ArrayIndexOutOfBoundsException" "java/lang/Throwable" "detailMessage" "Ljava/lang/String;") ∈ lw_all := lw_g (lw_at lw_m6 190 rfl) rfl
theorem q1486 : (Jvm.Cond.lays "java/lang/ArrayIndexOutOfBoundsException" "java/lang/Throwable" "cause" "Ljava/lang/Throwable;") ∈ lw_all := lw_g (lw_at lw_m6 191 rfl) rfl
theorem q1487 : (Jvm.Cond.lays "java/lang/ArrayIndexOutOfBoundsException" "java/lang/Throwable" "stackTrace" "[Ljava/lang/StackTraceElement;") ∈ lw_all := lw_g (lw_at lw_m6 192 rfl) rfl
theorem q1488 : (Jvm.Cond.lays "java/lang/ArrayIndexOutOfBoundsException" "java/lang/Throwable" "depth" "I") ∈ lw_all := lw_g (lw_at lw_m6 193 rfl) rfl
theorem q1489 : (Jvm.Cond.lays "java/lang/ArrayIndexOutOfBoundsException" "java/lang/Throwable" "suppressedExceptions" "Ljava/util/List;") ∈ lw_all := lw_g (lw_at lw_m6 194 rfl) rfl
theorem q1490 : (Jvm.Cond.superclass "java/lang/ArrayIndexOutOfBoundsException" "java/lang/IndexOutOfBoundsException") ∈ lw_all := lw_g (lw_at lw_m6 195 rfl) rfl
theorem q1491 : (Jvm.Cond.castable "java/lang/ArrayIndexOutOfBoundsException" "java/lang/ArrayIndexOutOfBoundsException") ∈ lw_tbl := lw_at lw_m6 196 rfl
theorem q1494 : (Jvm.Cond.selects "java/lang/ArrayIndexOutOfBoundsException" ({ cls := "java/lang/Throwable", name := "fillInStackTrace", desc := "(I)Ljava/lang/Throwable;" } : Jvm.MethodName) ({ cls := "java/lang/Throwable", name := "fillInStackTrace", desc := "(I)Ljava/lang/Throwable;" } : Jvm.MethodName)) ∈ lw_all := lw_g (lw_at lw_m6 199 rfl) rfl
theorem q2161 : (Jvm.Cond.castable "java/lang/ArrayIndexOutOfBoundsException" "java/lang/IndexOutOfBoundsException") ∈ lw_tbl := lw_at lw_m9 146 rfl
theorem q2199 : (Jvm.Cond.castable "java/lang/ArrayIndexOutOfBoundsException" "java/lang/Object") ∈ lw_tbl := lw_at lw_m9 184 rfl
theorem in_J19 : ∀ w ∈ wsJ190, w ∈ lw_all := lw_in wsJ190 [1484, 1485, 1486, 1487, 1488, 1489] (by decide +kernel) (by decide +kernel)

/-! java/util/ArrayList -/
set_option maxRecDepth 100000
def RJ2 : String := "java/util/ArrayList"
def TJ2 : u_T := fun k => match k with
  | 0 => ("java/util/AbstractList", "modCount", "I", false)
  | 1 => ("java/util/ArrayList", "elementData", "[Ljava/lang/Object;", false)
  | _ => ("java/util/ArrayList", "size", "I", false)
def tyJ2 : Nat → FieldType := fun k => match k with
  | 0 => .int
  | 1 => .array (.object "java/lang/Object")
  | _ => .int
abbrev wsJ20 : List Cond := u_ws RJ2 TJ2 3
theorem nmJ2 : ∀ a, a < 3 → ∀ b, b < 3 → a ≠ b → (TJ2 a).2.1 ≠ (TJ2 b).2.1 := by decide +kernel
theorem tyJ2_ok : ∀ k, k < 3 → parseFieldDescriptor (TJ2 k).2.2.1 = some (tyJ2 k) := by decide +kernel
abbrev cJ2_init : ByteArray := prog_43_method_2_code
def yJ2_init : MethodName := ⟨RJ2, "<init>", "()V"⟩
def dkwJ2_init_0 : List UInt8 := [42, 183, 0, 1, 42, 178, 0, 39, 181, 0, 9, 177]
abbrev dktJ2_init_0 : List UInt8 := dkwJ2_init_0 ++ []
theorem dksJ2_init_0 : cJ2_init.data.toList.drop 0 = dktJ2_init_0 := by decide +kernel
theorem dJ2_init_0 : decode cJ2_init 0 = .ok (.aload_n 0, 1) := dk_42 (dk_at dksJ2_init_0 0 rfl rfl)
theorem dJ2_init_1 : decode cJ2_init 1 = .ok (.invokespecial 1, 3) := dk_183 0 1 (dk_at dksJ2_init_0 1 rfl rfl)
theorem dJ2_init_4 : decode cJ2_init 4 = .ok (.aload_n 0, 1) := dk_42 (dk_at dksJ2_init_0 4 rfl rfl)
theorem dJ2_init_5 : decode cJ2_init 5 = .ok (.getstatic 39, 3) := dk_178 0 39 (dk_at dksJ2_init_0 5 rfl rfl)
theorem dJ2_init_8 : decode cJ2_init 8 = .ok (.putfield 9, 3) := dk_181 0 9 (dk_at dksJ2_init_0 8 rfl rfl)
theorem dJ2_init_11 : decode cJ2_init 11 = .ok (.return_, 1) := dk_177 (dk_at dksJ2_init_0 11 rfl rfl)
abbrev cJ2_size : ByteArray := prog_43_method_8_code
def yJ2_size : MethodName := ⟨RJ2, "size", "()I"⟩
theorem dJ2_size_0 : decode cJ2_size 0 = .ok (.aload_n 0, 1) := by decide +kernel
theorem dJ2_size_1 : decode cJ2_size 1 = .ok (.getfield 48, 3) := by decide +kernel
theorem dJ2_size_4 : decode cJ2_size 4 = .ok (.ireturn, 1) := by decide +kernel
abbrev cJ2_get : ByteArray := prog_43_method_20_code
def yJ2_get : MethodName := ⟨RJ2, "get", "(I)Ljava/lang/Object;"⟩
def dkwJ2_get_0 : List UInt8 := [27, 42, 180, 0, 48, 184, 0, 118, 87, 42, 27, 182, 0, 123, 176]
abbrev dktJ2_get_0 : List UInt8 := dkwJ2_get_0 ++ []
theorem dksJ2_get_0 : cJ2_get.data.toList.drop 0 = dktJ2_get_0 := by decide +kernel
theorem dJ2_get_0 : decode cJ2_get 0 = .ok (.iload_n 1, 1) := dk_27 (dk_at dksJ2_get_0 0 rfl rfl)
theorem dJ2_get_1 : decode cJ2_get 1 = .ok (.aload_n 0, 1) := dk_42 (dk_at dksJ2_get_0 1 rfl rfl)
theorem dJ2_get_2 : decode cJ2_get 2 = .ok (.getfield 48, 3) := dk_180 0 48 (dk_at dksJ2_get_0 2 rfl rfl)
theorem dJ2_get_5 : decode cJ2_get 5 = .ok (.invokestatic 118, 3) := dk_184 0 118 (dk_at dksJ2_get_0 5 rfl rfl)
theorem dJ2_get_8 : decode cJ2_get 8 = .ok (.pop, 1) := dk_87 (dk_at dksJ2_get_0 8 rfl rfl)
theorem dJ2_get_9 : decode cJ2_get 9 = .ok (.aload_n 0, 1) := dk_42 (dk_at dksJ2_get_0 9 rfl rfl)
theorem dJ2_get_10 : decode cJ2_get 10 = .ok (.iload_n 1, 1) := dk_27 (dk_at dksJ2_get_0 10 rfl rfl)
theorem dJ2_get_11 : decode cJ2_get 11 = .ok (.invokevirtual 123, 3) := dk_182 0 123 (dk_at dksJ2_get_0 11 rfl rfl)
theorem dJ2_get_14 : decode cJ2_get 14 = .ok (.areturn, 1) := dk_176 (dk_at dksJ2_get_0 14 rfl rfl)
abbrev cJ2_elementData : ByteArray := prog_43_method_18_code
def yJ2_elementData : MethodName := ⟨RJ2, "elementData", "(I)Ljava/lang/Object;"⟩
def dkwJ2_elementData_0 : List UInt8 := [42, 180, 0, 9, 27, 50, 176]
abbrev dktJ2_elementData_0 : List UInt8 := dkwJ2_elementData_0 ++ []
theorem dksJ2_elementData_0 : cJ2_elementData.data.toList.drop 0 = dktJ2_elementData_0 := by decide +kernel
theorem dJ2_elementData_0 : decode cJ2_elementData 0 = .ok (.aload_n 0, 1) := dk_42 (dk_at dksJ2_elementData_0 0 rfl rfl)
theorem dJ2_elementData_1 : decode cJ2_elementData 1 = .ok (.getfield 9, 3) := dk_180 0 9 (dk_at dksJ2_elementData_0 1 rfl rfl)
theorem dJ2_elementData_4 : decode cJ2_elementData 4 = .ok (.iload_n 1, 1) := dk_27 (dk_at dksJ2_elementData_0 4 rfl rfl)
theorem dJ2_elementData_5 : decode cJ2_elementData 5 = .ok (.aaload, 1) := dk_50 (dk_at dksJ2_elementData_0 5 rfl rfl)
theorem dJ2_elementData_6 : decode cJ2_elementData 6 = .ok (.areturn, 1) := dk_176 (dk_at dksJ2_elementData_0 6 rfl rfl)
abbrev cJ2_add : ByteArray := prog_43_method_25_code
def yJ2_add : MethodName := ⟨RJ2, "add", "(Ljava/lang/Object;)Z"⟩
def dkwJ2_add_1 : List UInt8 := [172]
abbrev dktJ2_add_1 : List UInt8 := dkwJ2_add_1 ++ []
def dkwJ2_add_0 : List UInt8 := [42, 89, 180, 0, 63, 4, 96, 181, 0, 63, 42, 43, 42, 180, 0, 9, 42, 180, 0, 48, 182, 0, 131, 4]
abbrev dktJ2_add_0 : List UInt8 := dkwJ2_add_0 ++ dktJ2_add_1
theorem dksJ2_add_0 : cJ2_add.data.toList.drop 0 = dktJ2_add_0 := by decide +kernel
theorem dksJ2_add_1 : cJ2_add.data.toList.drop 24 = dktJ2_add_1 := dk_seg dksJ2_add_0 24 rfl rfl
theorem dJ2_add_0 : decode cJ2_add 0 = .ok (.aload_n 0, 1) := dk_42 (dk_at dksJ2_add_0 0 rfl rfl)
theorem dJ2_add_1 : decode cJ2_add 1 = .ok (.dup, 1) := dk_89 (dk_at dksJ2_add_0 1 rfl rfl)
theorem dJ2_add_2 : decode cJ2_add 2 = .ok (.getfield 63, 3) := dk_180 0 63 (dk_at dksJ2_add_0 2 rfl rfl)
theorem dJ2_add_5 : decode cJ2_add 5 = .ok (.iconst 1, 1) := dk_4 (dk_at dksJ2_add_0 5 rfl rfl)
theorem dJ2_add_6 : decode cJ2_add 6 = .ok (.iadd, 1) := dk_96 (dk_at dksJ2_add_0 6 rfl rfl)
theorem dJ2_add_7 : decode cJ2_add 7 = .ok (.putfield 63, 3) := dk_181 0 63 (dk_at dksJ2_add_0 7 rfl rfl)
theorem dJ2_add_10 : decode cJ2_add 10 = .ok (.aload_n 0, 1) := dk_42 (dk_at dksJ2_add_0 10 rfl rfl)
theorem dJ2_add_11 : decode cJ2_add 11 = .ok (.aload_n 1, 1) := dk_43 (dk_at dksJ2_add_0 11 rfl rfl)
theorem dJ2_add_12 : decode cJ2_add 12 = .ok (.aload_n 0, 1) := dk_42 (dk_at dksJ2_add_0 12 rfl rfl)
theorem dJ2_add_13 : decode cJ2_add 13 = .ok (.getfield 9, 3) := dk_180 0 9 (dk_at dksJ2_add_0 13 rfl rfl)
theorem dJ2_add_16 : decode cJ2_add 16 = .ok (.aload_n 0, 1) := dk_42 (dk_at dksJ2_add_0 16 rfl rfl)
theorem dJ2_add_17 : decode cJ2_add 17 = .ok (.getfield 48, 3) := dk_180 0 48 (dk_at dksJ2_add_0 17 rfl rfl)
theorem dJ2_add_20 : decode cJ2_add 20 = .ok (.invokevirtual 131, 3) := dk_182 0 131 (dk_at dksJ2_add_0 20 rfl rfl)
theorem dJ2_add_23 : decode cJ2_add 23 = .ok (.iconst 1, 1) := dk_4 (dk_at dksJ2_add_0 23 rfl rfl)
theorem dJ2_add_24 : decode cJ2_add 24 = .ok (.ireturn, 1) := dk_172 (dk_at dksJ2_add_1 0 rfl rfl)
abbrev cJ2_add_2 : ByteArray := prog_43_method_24_code
def yJ2_add_2 : MethodName := ⟨RJ2, "add", "(Ljava/lang/Object;[Ljava/lang/Object;I)V"⟩
def dkwJ2_add_2_0 : List UInt8 := [29, 44, 190, 160, 0, 8, 42, 182, 0, 129, 77, 44, 29, 43, 83, 42, 29, 4, 96, 181, 0, 48, 177]
abbrev dktJ2_add_2_0 : List UInt8 := dkwJ2_add_2_0 ++ []
theorem dksJ2_add_2_0 : cJ2_add_2.data.toList.drop 0 = dktJ2_add_2_0 := by decide +kernel
theorem dJ2_add_2_0 : decode cJ2_add_2 0 = .ok (.iload_n 3, 1) := dk_29 (dk_at dksJ2_add_2_0 0 rfl rfl)
theorem dJ2_add_2_1 : decode cJ2_add_2 1 = .ok (.aload_n 2, 1) := dk_44 (dk_at dksJ2_add_2_0 1 rfl rfl)
theorem dJ2_add_2_2 : decode cJ2_add_2 2 = .ok (.arraylength, 1) := dk_190 (dk_at dksJ2_add_2_0 2 rfl rfl)
theorem dJ2_add_2_3 : decode cJ2_add_2 3 = .ok (.if_icmp .ne 8, 3) := dk_160 0 8 (dk_at dksJ2_add_2_0 3 rfl rfl)
theorem dJ2_add_2_6 : decode cJ2_add_2 6 = .ok (.aload_n 0, 1) := dk_42 (dk_at dksJ2_add_2_0 6 rfl rfl)
theorem dJ2_add_2_7 : decode cJ2_add_2 7 = .ok (.invokevirtual 129, 3) := dk_182 0 129 (dk_at dksJ2_add_2_0 7 rfl rfl)
theorem dJ2_add_2_10 : decode cJ2_add_2 10 = .ok (.astore_n 2, 1) := dk_77 (dk_at dksJ2_add_2_0 10 rfl rfl)
theorem dJ2_add_2_11 : decode cJ2_add_2 11 = .ok (.aload_n 2, 1) := dk_44 (dk_at dksJ2_add_2_0 11 rfl rfl)
theorem dJ2_add_2_12 : decode cJ2_add_2 12 = .ok (.iload_n 3, 1) := dk_29 (dk_at dksJ2_add_2_0 12 rfl rfl)
theorem dJ2_add_2_13 : decode cJ2_add_2 13 = .ok (.aload_n 1, 1) := dk_43 (dk_at dksJ2_add_2_0 13 rfl rfl)
theorem dJ2_add_2_14 : decode cJ2_add_2 14 = .ok (.aastore, 1) := dk_83 (dk_at dksJ2_add_2_0 14 rfl rfl)
theorem dJ2_add_2_15 : decode cJ2_add_2 15 = .ok (.aload_n 0, 1) := dk_42 (dk_at dksJ2_add_2_0 15 rfl rfl)
theorem dJ2_add_2_16 : decode cJ2_add_2 16 = .ok (.iload_n 3, 1) := dk_29 (dk_at dksJ2_add_2_0 16 rfl rfl)
theorem dJ2_add_2_17 : decode cJ2_add_2 17 = .ok (.iconst 1, 1) := dk_4 (dk_at dksJ2_add_2_0 17 rfl rfl)
theorem dJ2_add_2_18 : decode cJ2_add_2 18 = .ok (.iadd, 1) := dk_96 (dk_at dksJ2_add_2_0 18 rfl rfl)
theorem dJ2_add_2_19 : decode cJ2_add_2 19 = .ok (.putfield 48, 3) := dk_181 0 48 (dk_at dksJ2_add_2_0 19 rfl rfl)
theorem dJ2_add_2_22 : decode cJ2_add_2 22 = .ok (.return_, 1) := dk_177 (dk_at dksJ2_add_2_0 22 rfl rfl)
abbrev cJ2_grow : ByteArray := prog_43_method_7_code
def yJ2_grow : MethodName := ⟨RJ2, "grow", "()[Ljava/lang/Object;"⟩
def dkwJ2_grow_0 : List UInt8 := [42, 42, 180, 0, 48, 4, 96, 182, 0, 69, 176]
abbrev dktJ2_grow_0 : List UInt8 := dkwJ2_grow_0 ++ []
theorem dksJ2_grow_0 : cJ2_grow.data.toList.drop 0 = dktJ2_grow_0 := by decide +kernel
theorem dJ2_grow_0 : decode cJ2_grow 0 = .ok (.aload_n 0, 1) := dk_42 (dk_at dksJ2_grow_0 0 rfl rfl)
theorem dJ2_grow_1 : decode cJ2_grow 1 = .ok (.aload_n 0, 1) := dk_42 (dk_at dksJ2_grow_0 1 rfl rfl)
theorem dJ2_grow_2 : decode cJ2_grow 2 = .ok (.getfield 48, 3) := dk_180 0 48 (dk_at dksJ2_grow_0 2 rfl rfl)
theorem dJ2_grow_5 : decode cJ2_grow 5 = .ok (.iconst 1, 1) := dk_4 (dk_at dksJ2_grow_0 5 rfl rfl)
theorem dJ2_grow_6 : decode cJ2_grow 6 = .ok (.iadd, 1) := dk_96 (dk_at dksJ2_grow_0 6 rfl rfl)
theorem dJ2_grow_7 : decode cJ2_grow 7 = .ok (.invokevirtual 69, 3) := dk_182 0 69 (dk_at dksJ2_grow_0 7 rfl rfl)
theorem dJ2_grow_10 : decode cJ2_grow 10 = .ok (.areturn, 1) := dk_176 (dk_at dksJ2_grow_0 10 rfl rfl)
abbrev cJ2_grow_2 : ByteArray := prog_43_method_6_code
def yJ2_grow_2 : MethodName := ⟨RJ2, "grow", "(I)[Ljava/lang/Object;"⟩
def dkwJ2_grow_2_2 : List UInt8 := [27, 184, 0, 79, 189, 0, 7, 90, 181, 0, 9, 176]
abbrev dktJ2_grow_2_2 : List UInt8 := dkwJ2_grow_2_2 ++ []
def dkwJ2_grow_2_1 : List UInt8 := [28, 4, 122, 184, 0, 73, 62, 42, 42, 180, 0, 9, 29, 184, 0, 66, 90, 181, 0, 9, 176, 42, 16, 10]
abbrev dktJ2_grow_2_1 : List UInt8 := dkwJ2_grow_2_1 ++ dktJ2_grow_2_2
def dkwJ2_grow_2_0 : List UInt8 := [42, 180, 0, 9, 190, 61, 28, 157, 0, 13, 42, 180, 0, 9, 178, 0, 39, 165, 0, 28, 28, 27, 28, 100]
abbrev dktJ2_grow_2_0 : List UInt8 := dkwJ2_grow_2_0 ++ dktJ2_grow_2_1
theorem dksJ2_grow_2_0 : cJ2_grow_2.data.toList.drop 0 = dktJ2_grow_2_0 := by decide +kernel
theorem dksJ2_grow_2_1 : cJ2_grow_2.data.toList.drop 24 = dktJ2_grow_2_1 := dk_seg dksJ2_grow_2_0 24 rfl rfl
theorem dksJ2_grow_2_2 : cJ2_grow_2.data.toList.drop 48 = dktJ2_grow_2_2 := dk_seg dksJ2_grow_2_1 24 rfl rfl
theorem dJ2_grow_2_0 : decode cJ2_grow_2 0 = .ok (.aload_n 0, 1) := dk_42 (dk_at dksJ2_grow_2_0 0 rfl rfl)
theorem dJ2_grow_2_1 : decode cJ2_grow_2 1 = .ok (.getfield 9, 3) := dk_180 0 9 (dk_at dksJ2_grow_2_0 1 rfl rfl)
theorem dJ2_grow_2_4 : decode cJ2_grow_2 4 = .ok (.arraylength, 1) := dk_190 (dk_at dksJ2_grow_2_0 4 rfl rfl)
theorem dJ2_grow_2_5 : decode cJ2_grow_2 5 = .ok (.istore_n 2, 1) := dk_61 (dk_at dksJ2_grow_2_0 5 rfl rfl)
theorem dJ2_grow_2_6 : decode cJ2_grow_2 6 = .ok (.iload_n 2, 1) := dk_28 (dk_at dksJ2_grow_2_0 6 rfl rfl)
theorem dJ2_grow_2_7 : decode cJ2_grow_2 7 = .ok (.ifCond .gt 13, 3) := dk_157 0 13 (dk_at dksJ2_grow_2_0 7 rfl rfl)
theorem dJ2_grow_2_10 : decode cJ2_grow_2 10 = .ok (.aload_n 0, 1) := dk_42 (dk_at dksJ2_grow_2_0 10 rfl rfl)
theorem dJ2_grow_2_11 : decode cJ2_grow_2 11 = .ok (.getfield 9, 3) := dk_180 0 9 (dk_at dksJ2_grow_2_0 11 rfl rfl)
theorem dJ2_grow_2_14 : decode cJ2_grow_2 14 = .ok (.getstatic 39, 3) := dk_178 0 39 (dk_at dksJ2_grow_2_0 14 rfl rfl)
theorem dJ2_grow_2_17 : decode cJ2_grow_2 17 = .ok (.if_acmp .eq 28, 3) := dk_165 0 28 (dk_at dksJ2_grow_2_0 17 rfl rfl)
theorem dJ2_grow_2_20 : decode cJ2_grow_2 20 = .ok (.iload_n 2, 1) := dk_28 (dk_at dksJ2_grow_2_0 20 rfl rfl)
theorem dJ2_grow_2_21 : decode cJ2_grow_2 21 = .ok (.iload_n 1, 1) := dk_27 (dk_at dksJ2_grow_2_0 21 rfl rfl)
theorem dJ2_grow_2_22 : decode cJ2_grow_2 22 = .ok (.iload_n 2, 1) := dk_28 (dk_at dksJ2_grow_2_0 22 rfl rfl)
theorem dJ2_grow_2_23 : decode cJ2_grow_2 23 = .ok (.isub, 1) := dk_100 (dk_at dksJ2_grow_2_0 23 rfl rfl)
theorem dJ2_grow_2_24 : decode cJ2_grow_2 24 = .ok (.iload_n 2, 1) := dk_28 (dk_at dksJ2_grow_2_1 0 rfl rfl)
theorem dJ2_grow_2_25 : decode cJ2_grow_2 25 = .ok (.iconst 1, 1) := dk_4 (dk_at dksJ2_grow_2_1 1 rfl rfl)
theorem dJ2_grow_2_26 : decode cJ2_grow_2 26 = .ok (.ishr, 1) := dk_122 (dk_at dksJ2_grow_2_1 2 rfl rfl)
theorem dJ2_grow_2_27 : decode cJ2_grow_2 27 = .ok (.invokestatic 73, 3) := dk_184 0 73 (dk_at dksJ2_grow_2_1 3 rfl rfl)
theorem dJ2_grow_2_30 : decode cJ2_grow_2 30 = .ok (.istore_n 3, 1) := dk_62 (dk_at dksJ2_grow_2_1 6 rfl rfl)
theorem dJ2_grow_2_31 : decode cJ2_grow_2 31 = .ok (.aload_n 0, 1) := dk_42 (dk_at dksJ2_grow_2_1 7 rfl rfl)
theorem dJ2_grow_2_32 : decode cJ2_grow_2 32 = .ok (.aload_n 0, 1) := dk_42 (dk_at dksJ2_grow_2_1 8 rfl rfl)
theorem dJ2_grow_2_33 : decode cJ2_grow_2 33 = .ok (.getfield 9, 3) := dk_180 0 9 (dk_at dksJ2_grow_2_1 9 rfl rfl)
theorem dJ2_grow_2_36 : decode cJ2_grow_2 36 = .ok (.iload_n 3, 1) := dk_29 (dk_at dksJ2_grow_2_1 12 rfl rfl)
theorem dJ2_grow_2_37 : decode cJ2_grow_2 37 = .ok (.invokestatic 66, 3) := dk_184 0 66 (dk_at dksJ2_grow_2_1 13 rfl rfl)
theorem dJ2_grow_2_40 : decode cJ2_grow_2 40 = .ok (.dup_x1, 1) := dk_90 (dk_at dksJ2_grow_2_1 16 rfl rfl)
theorem dJ2_grow_2_41 : decode cJ2_grow_2 41 = .ok (.putfield 9, 3) := dk_181 0 9 (dk_at dksJ2_grow_2_1 17 rfl rfl)
theorem dJ2_grow_2_44 : decode cJ2_grow_2 44 = .ok (.areturn, 1) := dk_176 (dk_at dksJ2_grow_2_1 20 rfl rfl)
theorem dJ2_grow_2_45 : decode cJ2_grow_2 45 = .ok (.aload_n 0, 1) := dk_42 (dk_at dksJ2_grow_2_1 21 rfl rfl)
theorem dJ2_grow_2_46 : decode cJ2_grow_2 46 = .ok (.bipush 10, 2) := dk_16 10 (dk_at dksJ2_grow_2_1 22 rfl rfl)
theorem dJ2_grow_2_48 : decode cJ2_grow_2 48 = .ok (.iload_n 1, 1) := dk_27 (dk_at dksJ2_grow_2_2 0 rfl rfl)
theorem dJ2_grow_2_49 : decode cJ2_grow_2 49 = .ok (.invokestatic 79, 3) := dk_184 0 79 (dk_at dksJ2_grow_2_2 1 rfl rfl)
theorem dJ2_grow_2_52 : decode cJ2_grow_2 52 = .ok (.anewarray 7, 3) := dk_189 0 7 (dk_at dksJ2_grow_2_2 4 rfl rfl)
theorem dJ2_grow_2_55 : decode cJ2_grow_2 55 = .ok (.dup_x1, 1) := dk_90 (dk_at dksJ2_grow_2_2 7 rfl rfl)
theorem dJ2_grow_2_56 : decode cJ2_grow_2 56 = .ok (.putfield 9, 3) := dk_181 0 9 (dk_at dksJ2_grow_2_2 8 rfl rfl)
theorem dJ2_grow_2_59 : decode cJ2_grow_2 59 = .ok (.areturn, 1) := dk_176 (dk_at dksJ2_grow_2_2 11 rfl rfl)
theorem q101 : (Jvm.Cond.initialized "java/util/ArrayList") ∈ lw_all := lw_g (lw_at lw_m1 6 rfl) rfl
theorem q180 : (Jvm.Cond.instantiable "java/util/ArrayList" (3 : Nat)) ∈ lw_all := lw_g (lw_at lw_m1 85 rfl) rfl
theorem q182 : (Jvm.Cond.instanceMethod ({ cls := "java/util/ArrayList", name := "<init>", desc := "()V" } : Jvm.MethodName)) ∈ lw_all := lw_g (lw_at lw_m1 87 rfl) rfl
theorem q183 : (Jvm.Cond.code ({ cls := "java/util/ArrayList", name := "<init>", desc := "()V" } : Jvm.MethodName) prog_43_method_2_code (1 : Nat) (Option.none : Option Jvm.ClassFile.FieldType)) ∈ lw_all := lw_g (lw_at lw_m1 88 rfl) rfl
theorem q184 : (Jvm.Cond.methodLink "java/util/ArrayList" (1 : Nat) ({ cls := "java/util/AbstractList", name := "<init>", desc := "()V" } : Jvm.MethodName)) ∈ lw_all := lw_g (lw_at lw_m1 89 rfl) rfl
theorem q191 : (Jvm.Cond.fieldLink "java/util/ArrayList" (39 : Nat) "java/util/ArrayList" "DEFAULTCAPACITY_EMPTY_ELEMENTDATA" "[Ljava/lang/Object;") ∈ lw_all := lw_g (lw_at lw_m1 96 rfl) rfl
theorem q192 : (Jvm.Cond.laysStatic "java/util/ArrayList" "DEFAULTCAPACITY_EMPTY_ELEMENTDATA" "[Ljava/lang/Object;") ∈ lw_tbl := lw_at lw_m1 97 rfl
theorem q193 : (Jvm.Cond.fieldLink "java/util/ArrayList" (9 : Nat) "java/util/ArrayList" "elementData" "[Ljava/lang/Object;") ∈ lw_all := lw_g (lw_at lw_m1 98 rfl) rfl
theorem q194 : (Jvm.Cond.fieldLink "java/util/ArrayList" (48 : Nat) "java/util/ArrayList" "size" "I") ∈ lw_all := lw_g (lw_at lw_m1 99 rfl) rfl
theorem q196 : (Jvm.Cond.fieldLink "java/util/ArrayList" (63 : Nat) "java/util/ArrayList" "modCount" "I") ∈ lw_all := lw_g (lw_at lw_m1 101 rfl) rfl
theorem q197 : (Jvm.Cond.sameField "java/util/ArrayList" "java/util/AbstractList" "modCount" "I") ∈ lw_all := lw_g (lw_at lw_m1 102 rfl) rfl
theorem q198 : (Jvm.Cond.lays "java/util/ArrayList" "java/util/ArrayList" "elementData" "[Ljava/lang/Object;") ∈ lw_all := lw_g (lw_at lw_m1 103 rfl) rfl
theorem q199 : (Jvm.Cond.soleField "java/util/ArrayList" "elementData") ∈ lw_all := lw_g (lw_at lw_m1 104 rfl) rfl
theorem q200 : (Jvm.Cond.lays "java/util/ArrayList" "java/util/ArrayList" "size" "I") ∈ lw_all := lw_g (lw_at lw_m1 105 rfl) rfl
theorem q201 : (Jvm.Cond.soleField "java/util/ArrayList" "size") ∈ lw_all := lw_g (lw_at lw_m1 106 rfl) rfl
theorem q202 : (Jvm.Cond.lays "java/util/ArrayList" "java/util/AbstractList" "modCount" "I") ∈ lw_all := lw_g (lw_at lw_m1 107 rfl) rfl
theorem q204 : (Jvm.Cond.superclass "java/util/ArrayList" "java/util/AbstractList") ∈ lw_all := lw_g (lw_at lw_m1 109 rfl) rfl
theorem q613 : (Jvm.Cond.instanceMethod ({ cls := "java/util/ArrayList", name := "size", desc := "()I" } : Jvm.MethodName)) ∈ lw_all := lw_g (lw_at lw_m3 38 rfl) rfl
theorem q614 : (Jvm.Cond.selects "java/util/ArrayList" ({ cls := "java/util/ArrayList", name := "size", desc := "()I" } : Jvm.MethodName) ({ cls := "java/util/ArrayList", name := "size", desc := "()I" } : Jvm.MethodName)) ∈ lw_all := lw_g (lw_at lw_m3 39 rfl) rfl
theorem q615 : (Jvm.Cond.code ({ cls := "java/util/ArrayList", name := "size", desc := "()I" } : Jvm.MethodName) prog_43_method_8_code (1 : Nat) (Option.some Jvm.ClassFile.FieldType.int)) ∈ lw_all := lw_g (lw_at lw_m3 40 rfl) rfl
theorem q617 : (Jvm.Cond.instanceMethod ({ cls := "java/util/ArrayList", name := "get", desc := "(I)Ljava/lang/Object;" } : Jvm.MethodName)) ∈ lw_all := lw_g (lw_at lw_m3 42 rfl) rfl
theorem q618 : (Jvm.Cond.selects "java/util/ArrayList" ({ cls := "java/util/ArrayList", name := "get", desc := "(I)Ljava/lang/Object;" } : Jvm.MethodName) ({ cls := "java/util/ArrayList", name := "get", desc := "(I)Ljava/lang/Object;" } : Jvm.MethodName)) ∈ lw_all := lw_g (lw_at lw_m3 43 rfl) rfl
theorem q619 : (Jvm.Cond.code ({ cls := "java/util/ArrayList", name := "get", desc := "(I)Ljava/lang/Object;" } : Jvm.MethodName) prog_43_method_20_code (2 : Nat) (Option.some (Jvm.ClassFile.FieldType.object "java/lang/Object"))) ∈ lw_all := lw_g (lw_at lw_m3 44 rfl) rfl
theorem q620 : (Jvm.Cond.methodLink "java/util/ArrayList" (118 : Nat) ({ cls := "java/util/Objects", name := "checkIndex", desc := "(II)I" } : Jvm.MethodName)) ∈ lw_all := lw_g (lw_at lw_m3 45 rfl) rfl
theorem q626 : (Jvm.Cond.methodLink "java/util/ArrayList" (123 : Nat) ({ cls := "java/util/ArrayList", name := "elementData", desc := "(I)Ljava/lang/Object;" } : Jvm.MethodName)) ∈ lw_all := lw_g (lw_at lw_m3 51 rfl) rfl
theorem q627 : (Jvm.Cond.instanceMethod ({ cls := "java/util/ArrayList", name := "elementData", desc := "(I)Ljava/lang/Object;" } : Jvm.MethodName)) ∈ lw_all := lw_g (lw_at lw_m3 52 rfl) rfl
theorem q628 : (Jvm.Cond.selects "java/util/ArrayList" ({ cls := "java/util/ArrayList", name := "elementData", desc := "(I)Ljava/lang/Object;" } : Jvm.MethodName) ({ cls := "java/util/ArrayList", name := "elementData", desc := "(I)Ljava/lang/Object;" } : Jvm.MethodName)) ∈ lw_all := lw_g (lw_at lw_m3 53 rfl) rfl
theorem q629 : (Jvm.Cond.code ({ cls := "java/util/ArrayList", name := "elementData", desc := "(I)Ljava/lang/Object;" } : Jvm.MethodName) prog_43_method_18_code (2 : Nat) (Option.some (Jvm.ClassFile.FieldType.object "java/lang/Object"))) ∈ lw_all := lw_g (lw_at lw_m3 54 rfl) rfl
theorem q971 : (Jvm.Cond.instanceMethod ({ cls := "java/util/ArrayList", name := "add", desc := "(Ljava/lang/Object;)Z" } : Jvm.MethodName)) ∈ lw_all := lw_g (lw_at lw_m4 156 rfl) rfl
theorem q972 : (Jvm.Cond.selects "java/util/ArrayList" ({ cls := "java/util/ArrayList", name := "add", desc := "(Ljava/lang/Object;)Z" } : Jvm.MethodName) ({ cls := "java/util/ArrayList", name := "add", desc := "(Ljava/lang/Object;)Z" } : Jvm.MethodName)) ∈ lw_all := lw_g (lw_at lw_m4 157 rfl) rfl
theorem q973 : (Jvm.Cond.code ({ cls := "java/util/ArrayList", name := "add", desc := "(Ljava/lang/Object;)Z" } : Jvm.MethodName) prog_43_method_25_code (2 : Nat) (Option.some Jvm.ClassFile.FieldType.boolean)) ∈ lw_all := lw_g (lw_at lw_m4 158 rfl) rfl
theorem q974 : (Jvm.Cond.methodLink "java/util/ArrayList" (131 : Nat) ({ cls := "java/util/ArrayList", name := "add", desc := "(Ljava/lang/Object;[Ljava/lang/Object;I)V" } : Jvm.MethodName)) ∈ lw_all := lw_g (lw_at lw_m4 159 rfl) rfl
theorem q975 : (Jvm.Cond.privateMethod ({ cls := "java/util/ArrayList", name := "add", desc := "(Ljava/lang/Object;[Ljava/lang/Object;I)V" } : Jvm.MethodName)) ∈ lw_tbl := lw_at lw_m4 160 rfl
theorem q976 : (Jvm.Cond.instanceMethod ({ cls := "java/util/ArrayList", name := "add", desc := "(Ljava/lang/Object;[Ljava/lang/Object;I)V" } : Jvm.MethodName)) ∈ lw_all := lw_g (lw_at lw_m4 161 rfl) rfl
theorem q977 : (Jvm.Cond.code ({ cls := "java/util/ArrayList", name := "add", desc := "(Ljava/lang/Object;[Ljava/lang/Object;I)V" } : Jvm.MethodName) prog_43_method_24_code (4 : Nat) (Option.none : Option Jvm.ClassFile.FieldType)) ∈ lw_all := lw_g (lw_at lw_m4 162 rfl) rfl
theorem q978 : (Jvm.Cond.methodLink "java/util/ArrayList" (129 : Nat) ({ cls := "java/util/ArrayList", name := "grow", desc := "()[Ljava/lang/Object;" } : Jvm.MethodName)) ∈ lw_all := lw_g (lw_at lw_m4 163 rfl) rfl
theorem q979 : (Jvm.Cond.privateMethod ({ cls := "java/util/ArrayList", name := "grow", desc := "()[Ljava/lang/Object;" } : Jvm.MethodName)) ∈ lw_tbl := lw_at lw_m4 164 rfl
theorem q980 : (Jvm.Cond.instanceMethod ({ cls := "java/util/ArrayList", name := "grow", desc := "()[Ljava/lang/Object;" } : Jvm.MethodName)) ∈ lw_all := lw_g (lw_at lw_m4 165 rfl) rfl
theorem q981 : (Jvm.Cond.code ({ cls := "java/util/ArrayList", name := "grow", desc := "()[Ljava/lang/Object;" } : Jvm.MethodName) prog_43_method_7_code (1 : Nat) (Option.some (Jvm.ClassFile.FieldType.array (Jvm.ClassFile.FieldType.object "java/lang/Object")))) ∈ lw_all := lw_g (lw_at lw_m4 166 rfl) rfl
theorem q982 : (Jvm.Cond.methodLink "java/util/ArrayList" (69 : Nat) ({ cls := "java/util/ArrayList", name := "grow", desc := "(I)[Ljava/lang/Object;" } : Jvm.MethodName)) ∈ lw_all := lw_g (lw_at lw_m4 167 rfl) rfl
theorem q983 : (Jvm.Cond.privateMethod ({ cls := "java/util/ArrayList", name := "grow", desc := "(I)[Ljava/lang/Object;" } : Jvm.MethodName)) ∈ lw_tbl := lw_at lw_m4 168 rfl
theorem q984 : (Jvm.Cond.instanceMethod ({ cls := "java/util/ArrayList", name := "grow", desc := "(I)[Ljava/lang/Object;" } : Jvm.MethodName)) ∈ lw_all := lw_g (lw_at lw_m4 169 rfl) rfl
theorem q985 : (Jvm.Cond.code ({ cls := "java/util/ArrayList", name := "grow", desc := "(I)[Ljava/lang/Object;" } : Jvm.MethodName) prog_43_method_6_code (4 : Nat) (Option.some (Jvm.ClassFile.FieldType.array (Jvm.ClassFile.FieldType.object "java/lang/Object")))) ∈ lw_all := lw_g (lw_at lw_m4 170 rfl) rfl
theorem q986 : (Jvm.Cond.methodLink "java/util/ArrayList" (73 : Nat) ({ cls := "jdk/internal/util/ArraysSupport", name := "newLength", desc := "(III)I" } : Jvm.MethodName)) ∈ lw_all := lw_g (lw_at lw_m4 171 rfl) rfl
theorem q994 : (Jvm.Cond.methodLink "java/util/ArrayList" (66 : Nat) ({ cls := "java/util/Arrays", name := "copyOf", desc := "([Ljava/lang/Object;I)[Ljava/lang/Object;" } : Jvm.MethodName)) ∈ lw_all := lw_g (lw_at lw_m4 179 rfl) rfl
theorem q1025 : (Jvm.Cond.selects "java/util/ArrayList" ({ cls := "java/lang/Object", name := "getClass", desc := "()Ljava/lang/Class;" } : Jvm.MethodName) ({ cls := "java/lang/Object", name := "getClass", desc := "()Ljava/lang/Class;" } : Jvm.MethodName)) ∈ lw_all := lw_g (lw_at lw_m4 210 rfl) rfl
theorem q1039 : (Jvm.Cond.methodLink "java/util/ArrayList" (79 : Nat) ({ cls := "java/lang/Math", name := "max", desc := "(II)I" } : Jvm.MethodName)) ∈ lw_all := lw_g (lw_at lw_m4 224 rfl) rfl
theorem q1040 : (Jvm.Cond.classLink "java/util/ArrayList" (7 : Nat) "java/lang/Object") ∈ lw_all := lw_g (lw_at lw_m4 225 rfl) rfl
theorem q2179 : (Jvm.Cond.castable "java/util/ArrayList" "java/lang/Object") ∈ lw_tbl := lw_at lw_m9 164 rfl
theorem in_J2 : ∀ w ∈ wsJ20, w ∈ lw_all := lw_in wsJ20 [202, 198, 200] (by decide +kernel) (by decide +kernel)

/-! java/lang/Object -/
set_option maxRecDepth 100000
def RJ20 : String := "java/lang/Object"
abbrev cJ20_init : ByteArray := object_method_1_code
def yJ20_init : MethodName := ⟨RJ20, "<init>", "()V"⟩
theorem dJ20_init_0 : decode cJ20_init 0 = .ok (.return_, 1) := by decide +kernel
theorem q144 : (Jvm.Cond.instanceMethod ({ cls := "java/lang/Object", name := "<init>", desc := "()V" } : Jvm.MethodName)) ∈ lw_all := lw_g (lw_at lw_m1 49 rfl) rfl
theorem q145 : (Jvm.Cond.code ({ cls := "java/lang/Object", name := "<init>", desc := "()V" } : Jvm.MethodName) object_method_1_code (1 : Nat) (Option.none : Option Jvm.ClassFile.FieldType)) ∈ lw_all := lw_g (lw_at lw_m1 50 rfl) rfl
theorem q998 : (Jvm.Cond.instanceMethod ({ cls := "java/lang/Object", name := "getClass", desc := "()Ljava/lang/Class;" } : Jvm.MethodName)) ∈ lw_all := lw_g (lw_at lw_m4 183 rfl) rfl
theorem q999 : (Jvm.Cond.sameMethod "java/lang/Object" "java/lang/Object" "getClass" "()Ljava/lang/Class;") ∈ lw_all := lw_g (lw_at lw_m4 184 rfl) rfl
theorem q1026 : (Jvm.Cond.native ({ cls := "java/lang/Object", name := "getClass", desc := "()Ljava/lang/Class;" } : Jvm.MethodName)) ∈ lw_all := lw_g (lw_at lw_m4 211 rfl) rfl
theorem q1089 : (Jvm.Cond.native ({ cls := "java/lang/Object", name := "clone", desc := "()Ljava/lang/Object;" } : Jvm.MethodName)) ∈ lw_all := lw_g (lw_at lw_m5 34 rfl) rfl
theorem q1090 : (Jvm.Cond.instanceMethod ({ cls := "java/lang/Object", name := "clone", desc := "()Ljava/lang/Object;" } : Jvm.MethodName)) ∈ lw_all := lw_g (lw_at lw_m5 35 rfl) rfl
theorem q2204 : (Jvm.Cond.declares ({ cls := "java/lang/Object", name := "getClass", desc := "()Ljava/lang/Class;" } : Jvm.MethodName)) ∈ lw_tbl := lw_at lw_m9 189 rfl

/-! java/util/Objects -/
set_option maxRecDepth 100000
def RJ3 : String := "java/util/Objects"
abbrev cJ3_checkIndex : ByteArray := prog_47_method_17_code
def yJ3_checkIndex : MethodName := ⟨RJ3, "checkIndex", "(II)I"⟩
def dkwJ3_checkIndex_0 : List UInt8 := [26, 27, 1, 184, 0, 105, 172]
abbrev dktJ3_checkIndex_0 : List UInt8 := dkwJ3_checkIndex_0 ++ []
theorem dksJ3_checkIndex_0 : cJ3_checkIndex.data.toList.drop 0 = dktJ3_checkIndex_0 := by decide +kernel
theorem dJ3_checkIndex_0 : decode cJ3_checkIndex 0 = .ok (.iload_n 0, 1) := dk_26 (dk_at dksJ3_checkIndex_0 0 rfl rfl)
theorem dJ3_checkIndex_1 : decode cJ3_checkIndex 1 = .ok (.iload_n 1, 1) := dk_27 (dk_at dksJ3_checkIndex_0 1 rfl rfl)
theorem dJ3_checkIndex_2 : decode cJ3_checkIndex 2 = .ok (.aconst_null, 1) := dk_1 (dk_at dksJ3_checkIndex_0 2 rfl rfl)
theorem dJ3_checkIndex_3 : decode cJ3_checkIndex 3 = .ok (.invokestatic 105, 3) := dk_184 0 105 (dk_at dksJ3_checkIndex_0 3 rfl rfl)
theorem dJ3_checkIndex_6 : decode cJ3_checkIndex 6 = .ok (.ireturn, 1) := dk_172 (dk_at dksJ3_checkIndex_0 6 rfl rfl)
theorem q113 : (Jvm.Cond.initialized "java/util/Objects") ∈ lw_all := lw_g (lw_at lw_m1 18 rfl) rfl
theorem q621 : (Jvm.Cond.static ({ cls := "java/util/Objects", name := "checkIndex", desc := "(II)I" } : Jvm.MethodName)) ∈ lw_all := lw_g (lw_at lw_m3 46 rfl) rfl
theorem q622 : (Jvm.Cond.code ({ cls := "java/util/Objects", name := "checkIndex", desc := "(II)I" } : Jvm.MethodName) prog_47_method_17_code (2 : Nat) (Option.some Jvm.ClassFile.FieldType.int)) ∈ lw_all := lw_g (lw_at lw_m3 47 rfl) rfl
theorem q623 : (Jvm.Cond.methodLink "java/util/Objects" (105 : Nat) ({ cls := "jdk/internal/util/Preconditions", name := "checkIndex", desc := "(IILjava/util/function/BiFunction;)I" } : Jvm.MethodName)) ∈ lw_all := lw_g (lw_at lw_m3 48 rfl) rfl

/-! jdk/internal/util/Preconditions -/
set_option maxRecDepth 100000
def RJ4 : String := "jdk/internal/util/Preconditions"
abbrev cJ4_checkIndex : ByteArray := prog_51_method_11_code
def yJ4_checkIndex : MethodName := ⟨RJ4, "checkIndex", "(IILjava/util/function/BiFunction;)I"⟩
def dkwJ4_checkIndex_0 : List UInt8 := [26, 155, 0, 8, 26, 27, 161, 0, 10, 44, 26, 27, 184, 0, 95, 191, 26, 172]
abbrev dktJ4_checkIndex_0 : List UInt8 := dkwJ4_checkIndex_0 ++ []
theorem dksJ4_checkIndex_0 : cJ4_checkIndex.data.toList.drop 0 = dktJ4_checkIndex_0 := by decide +kernel
theorem dJ4_checkIndex_0 : decode cJ4_checkIndex 0 = .ok (.iload_n 0, 1) := dk_26 (dk_at dksJ4_checkIndex_0 0 rfl rfl)
theorem dJ4_checkIndex_1 : decode cJ4_checkIndex 1 = .ok (.ifCond .lt 8, 3) := dk_155 0 8 (dk_at dksJ4_checkIndex_0 1 rfl rfl)
theorem dJ4_checkIndex_4 : decode cJ4_checkIndex 4 = .ok (.iload_n 0, 1) := dk_26 (dk_at dksJ4_checkIndex_0 4 rfl rfl)
theorem dJ4_checkIndex_5 : decode cJ4_checkIndex 5 = .ok (.iload_n 1, 1) := dk_27 (dk_at dksJ4_checkIndex_0 5 rfl rfl)
theorem dJ4_checkIndex_6 : decode cJ4_checkIndex 6 = .ok (.if_icmp .lt 10, 3) := dk_161 0 10 (dk_at dksJ4_checkIndex_0 6 rfl rfl)
theorem dJ4_checkIndex_9 : decode cJ4_checkIndex 9 = .ok (.aload_n 2, 1) := dk_44 (dk_at dksJ4_checkIndex_0 9 rfl rfl)
theorem dJ4_checkIndex_10 : decode cJ4_checkIndex 10 = .ok (.iload_n 0, 1) := dk_26 (dk_at dksJ4_checkIndex_0 10 rfl rfl)
theorem dJ4_checkIndex_11 : decode cJ4_checkIndex 11 = .ok (.iload_n 1, 1) := dk_27 (dk_at dksJ4_checkIndex_0 11 rfl rfl)
theorem dJ4_checkIndex_12 : decode cJ4_checkIndex 12 = .ok (.invokestatic 95, 3) := dk_184 0 95 (dk_at dksJ4_checkIndex_0 12 rfl rfl)
theorem dJ4_checkIndex_15 : decode cJ4_checkIndex 15 = .ok (.athrow, 1) := dk_191 (dk_at dksJ4_checkIndex_0 15 rfl rfl)
theorem dJ4_checkIndex_16 : decode cJ4_checkIndex 16 = .ok (.iload_n 0, 1) := dk_26 (dk_at dksJ4_checkIndex_0 16 rfl rfl)
theorem dJ4_checkIndex_17 : decode cJ4_checkIndex 17 = .ok (.ireturn, 1) := dk_172 (dk_at dksJ4_checkIndex_0 17 rfl rfl)
theorem q114 : (Jvm.Cond.initialized "jdk/internal/util/Preconditions") ∈ lw_all := lw_g (lw_at lw_m1 19 rfl) rfl
theorem q624 : (Jvm.Cond.static ({ cls := "jdk/internal/util/Preconditions", name := "checkIndex", desc := "(IILjava/util/function/BiFunction;)I" } : Jvm.MethodName)) ∈ lw_all := lw_g (lw_at lw_m3 49 rfl) rfl
theorem q625 : (Jvm.Cond.code ({ cls := "jdk/internal/util/Preconditions", name := "checkIndex", desc := "(IILjava/util/function/BiFunction;)I" } : Jvm.MethodName) prog_51_method_11_code (3 : Nat) (Option.some Jvm.ClassFile.FieldType.int)) ∈ lw_all := lw_g (lw_at lw_m3 50 rfl) rfl
theorem q789 : (Jvm.Cond.laysStatic "jdk/internal/util/Preconditions" "SIOOBE_FORMATTER" "Ljava/util/function/BiFunction;") ∈ lw_tbl := lw_at lw_m3 214 rfl

/-! java/lang/Math -/
set_option maxRecDepth 100000
def RJ5 : String := "java/lang/Math"
abbrev cJ5_max : ByteArray := prog_32_method_65_code
def yJ5_max : MethodName := ⟨RJ5, "max", "(II)I"⟩
def dkwJ5_max_0 : List UInt8 := [26, 27, 161, 0, 7, 26, 167, 0, 4, 27, 172]
abbrev dktJ5_max_0 : List UInt8 := dkwJ5_max_0 ++ []
theorem dksJ5_max_0 : cJ5_max.data.toList.drop 0 = dktJ5_max_0 := by decide +kernel
theorem dJ5_max_0 : decode cJ5_max 0 = .ok (.iload_n 0, 1) := dk_26 (dk_at dksJ5_max_0 0 rfl rfl)
theorem dJ5_max_1 : decode cJ5_max 1 = .ok (.iload_n 1, 1) := dk_27 (dk_at dksJ5_max_0 1 rfl rfl)
theorem dJ5_max_2 : decode cJ5_max 2 = .ok (.if_icmp .lt 7, 3) := dk_161 0 7 (dk_at dksJ5_max_0 2 rfl rfl)
theorem dJ5_max_5 : decode cJ5_max 5 = .ok (.iload_n 0, 1) := dk_26 (dk_at dksJ5_max_0 5 rfl rfl)
theorem dJ5_max_6 : decode cJ5_max 6 = .ok (.goto 4, 3) := dk_167 0 4 (dk_at dksJ5_max_0 6 rfl rfl)
theorem dJ5_max_9 : decode cJ5_max 9 = .ok (.iload_n 1, 1) := dk_27 (dk_at dksJ5_max_0 9 rfl rfl)
theorem dJ5_max_10 : decode cJ5_max 10 = .ok (.ireturn, 1) := dk_172 (dk_at dksJ5_max_0 10 rfl rfl)
abbrev cJ5_abs : ByteArray := prog_32_method_59_code
def yJ5_abs : MethodName := ⟨RJ5, "abs", "(I)I"⟩
def dkwJ5_abs_0 : List UInt8 := [26, 156, 0, 8, 26, 116, 167, 0, 4, 26, 172]
abbrev dktJ5_abs_0 : List UInt8 := dkwJ5_abs_0 ++ []
theorem dksJ5_abs_0 : cJ5_abs.data.toList.drop 0 = dktJ5_abs_0 := by decide +kernel
theorem dJ5_abs_0 : decode cJ5_abs 0 = .ok (.iload_n 0, 1) := dk_26 (dk_at dksJ5_abs_0 0 rfl rfl)
theorem dJ5_abs_1 : decode cJ5_abs 1 = .ok (.ifCond .ge 8, 3) := dk_156 0 8 (dk_at dksJ5_abs_0 1 rfl rfl)
theorem dJ5_abs_4 : decode cJ5_abs 4 = .ok (.iload_n 0, 1) := dk_26 (dk_at dksJ5_abs_0 4 rfl rfl)
theorem dJ5_abs_5 : decode cJ5_abs 5 = .ok (.ineg, 1) := dk_116 (dk_at dksJ5_abs_0 5 rfl rfl)
theorem dJ5_abs_6 : decode cJ5_abs 6 = .ok (.goto 4, 3) := dk_167 0 4 (dk_at dksJ5_abs_0 6 rfl rfl)
theorem dJ5_abs_9 : decode cJ5_abs 9 = .ok (.iload_n 0, 1) := dk_26 (dk_at dksJ5_abs_0 9 rfl rfl)
theorem dJ5_abs_10 : decode cJ5_abs 10 = .ok (.ireturn, 1) := dk_172 (dk_at dksJ5_abs_0 10 rfl rfl)
abbrev cJ5_min : ByteArray := prog_32_method_69_code
def yJ5_min : MethodName := ⟨RJ5, "min", "(II)I"⟩
def dkwJ5_min_0 : List UInt8 := [26, 27, 163, 0, 7, 26, 167, 0, 4, 27, 172]
abbrev dktJ5_min_0 : List UInt8 := dkwJ5_min_0 ++ []
theorem dksJ5_min_0 : cJ5_min.data.toList.drop 0 = dktJ5_min_0 := by decide +kernel
theorem dJ5_min_0 : decode cJ5_min 0 = .ok (.iload_n 0, 1) := dk_26 (dk_at dksJ5_min_0 0 rfl rfl)
theorem dJ5_min_1 : decode cJ5_min 1 = .ok (.iload_n 1, 1) := dk_27 (dk_at dksJ5_min_0 1 rfl rfl)
theorem dJ5_min_2 : decode cJ5_min 2 = .ok (.if_icmp .gt 7, 3) := dk_163 0 7 (dk_at dksJ5_min_0 2 rfl rfl)
theorem dJ5_min_5 : decode cJ5_min 5 = .ok (.iload_n 0, 1) := dk_26 (dk_at dksJ5_min_0 5 rfl rfl)
theorem dJ5_min_6 : decode cJ5_min 6 = .ok (.goto 4, 3) := dk_167 0 4 (dk_at dksJ5_min_0 6 rfl rfl)
theorem dJ5_min_9 : decode cJ5_min 9 = .ok (.iload_n 1, 1) := dk_27 (dk_at dksJ5_min_0 9 rfl rfl)
theorem dJ5_min_10 : decode cJ5_min 10 = .ok (.ireturn, 1) := dk_172 (dk_at dksJ5_min_0 10 rfl rfl)
theorem q115 : (Jvm.Cond.initialized "java/lang/Math") ∈ lw_all := lw_g (lw_at lw_m1 20 rfl) rfl
theorem q668 : (Jvm.Cond.static ({ cls := "java/lang/Math", name := "max", desc := "(II)I" } : Jvm.MethodName)) ∈ lw_all := lw_g (lw_at lw_m3 93 rfl) rfl
theorem q669 : (Jvm.Cond.code ({ cls := "java/lang/Math", name := "max", desc := "(II)I" } : Jvm.MethodName) prog_32_method_65_code (2 : Nat) (Option.some Jvm.ClassFile.FieldType.int)) ∈ lw_all := lw_g (lw_at lw_m3 94 rfl) rfl
theorem q679 : (Jvm.Cond.static ({ cls := "java/lang/Math", name := "abs", desc := "(I)I" } : Jvm.MethodName)) ∈ lw_all := lw_g (lw_at lw_m3 104 rfl) rfl
theorem q680 : (Jvm.Cond.code ({ cls := "java/lang/Math", name := "abs", desc := "(I)I" } : Jvm.MethodName) prog_32_method_59_code (1 : Nat) (Option.some Jvm.ClassFile.FieldType.int)) ∈ lw_all := lw_g (lw_at lw_m3 105 rfl) rfl
theorem q1034 : (Jvm.Cond.static ({ cls := "java/lang/Math", name := "min", desc := "(II)I" } : Jvm.MethodName)) ∈ lw_all := lw_g (lw_at lw_m4 219 rfl) rfl
theorem q1035 : (Jvm.Cond.code ({ cls := "java/lang/Math", name := "min", desc := "(II)I" } : Jvm.MethodName) prog_32_method_69_code (2 : Nat) (Option.some Jvm.ClassFile.FieldType.int)) ∈ lw_all := lw_g (lw_at lw_m4 220 rfl) rfl

/-! java/lang/String -/
set_option maxRecDepth 100000
def RJ6 : String := "java/lang/String"
def TJ6 : u_T := fun k => match k with
  | 0 => ("java/lang/String", "value", "[B", true)
  | _ => ("java/lang/String", "coder", "B", true)
def tyJ6 : Nat → FieldType := fun k => match k with
  | 0 => .array .byte
  | _ => .byte
abbrev wsJ60 : List Cond := u_ws RJ6 TJ6 2
theorem nmJ6 : ∀ a, a < 2 → ∀ b, b < 2 → a ≠ b → (TJ6 a).2.1 ≠ (TJ6 b).2.1 := by decide +kernel
theorem tyJ6_ok : ∀ k, k < 2 → parseFieldDescriptor (TJ6 k).2.2.1 = some (tyJ6 k) := by decide +kernel
abbrev cJ6_length : ByteArray := prog_36_method_54_code
def yJ6_length : MethodName := ⟨RJ6, "length", "()I"⟩
def dkwJ6_length_0 : List UInt8 := [42, 180, 0, 9, 190, 42, 182, 1, 79, 122, 172]
abbrev dktJ6_length_0 : List UInt8 := dkwJ6_length_0 ++ []
theorem dksJ6_length_0 : cJ6_length.data.toList.drop 0 = dktJ6_length_0 := by decide +kernel
theorem dJ6_length_0 : decode cJ6_length 0 = .ok (.aload_n 0, 1) := dk_42 (dk_at dksJ6_length_0 0 rfl rfl)
theorem dJ6_length_1 : decode cJ6_length 1 = .ok (.getfield 9, 3) := dk_180 0 9 (dk_at dksJ6_length_0 1 rfl rfl)
theorem dJ6_length_4 : decode cJ6_length 4 = .ok (.arraylength, 1) := dk_190 (dk_at dksJ6_length_0 4 rfl rfl)
theorem dJ6_length_5 : decode cJ6_length 5 = .ok (.aload_n 0, 1) := dk_42 (dk_at dksJ6_length_0 5 rfl rfl)
theorem dJ6_length_6 : decode cJ6_length 6 = .ok (.invokevirtual 335, 3) := dk_182 1 79 (dk_at dksJ6_length_0 6 rfl rfl)
theorem dJ6_length_9 : decode cJ6_length 9 = .ok (.ishr, 1) := dk_122 (dk_at dksJ6_length_0 9 rfl rfl)
theorem dJ6_length_10 : decode cJ6_length 10 = .ok (.ireturn, 1) := dk_172 (dk_at dksJ6_length_0 10 rfl rfl)
abbrev cJ6_coder : ByteArray := prog_36_method_152_code
def yJ6_coder : MethodName := ⟨RJ6, "coder", "()B"⟩
def dkwJ6_coder_0 : List UInt8 := [178, 0, 38, 153, 0, 10, 42, 180, 0, 15, 167, 0, 4, 4, 172]
abbrev dktJ6_coder_0 : List UInt8 := dkwJ6_coder_0 ++ []
theorem dksJ6_coder_0 : cJ6_coder.data.toList.drop 0 = dktJ6_coder_0 := by decide +kernel
theorem dJ6_coder_0 : decode cJ6_coder 0 = .ok (.getstatic 38, 3) := dk_178 0 38 (dk_at dksJ6_coder_0 0 rfl rfl)
theorem dJ6_coder_3 : decode cJ6_coder 3 = .ok (.ifCond .eq 10, 3) := dk_153 0 10 (dk_at dksJ6_coder_0 3 rfl rfl)
theorem dJ6_coder_6 : decode cJ6_coder 6 = .ok (.aload_n 0, 1) := dk_42 (dk_at dksJ6_coder_0 6 rfl rfl)
theorem dJ6_coder_7 : decode cJ6_coder 7 = .ok (.getfield 15, 3) := dk_180 0 15 (dk_at dksJ6_coder_0 7 rfl rfl)
theorem dJ6_coder_10 : decode cJ6_coder 10 = .ok (.goto 4, 3) := dk_167 0 4 (dk_at dksJ6_coder_0 10 rfl rfl)
theorem dJ6_coder_13 : decode cJ6_coder 13 = .ok (.iconst 1, 1) := dk_4 (dk_at dksJ6_coder_0 13 rfl rfl)
theorem dJ6_coder_14 : decode cJ6_coder 14 = .ok (.ireturn, 1) := dk_172 (dk_at dksJ6_coder_0 14 rfl rfl)
abbrev cJ6_charAt : ByteArray := prog_36_method_56_code
def yJ6_charAt : MethodName := ⟨RJ6, "charAt", "(I)C"⟩
def dkwJ6_charAt_1 : List UInt8 := [172]
abbrev dktJ6_charAt_1 : List UInt8 := dkwJ6_charAt_1 ++ []
def dkwJ6_charAt_0 : List UInt8 := [42, 182, 1, 236, 153, 0, 12, 42, 180, 0, 9, 27, 184, 1, 239, 172, 42, 180, 0, 9, 27, 184, 1, 242]
abbrev dktJ6_charAt_0 : List UInt8 := dkwJ6_charAt_0 ++ dktJ6_charAt_1
theorem dksJ6_charAt_0 : cJ6_charAt.data.toList.drop 0 = dktJ6_charAt_0 := by decide +kernel
theorem dksJ6_charAt_1 : cJ6_charAt.data.toList.drop 24 = dktJ6_charAt_1 := dk_seg dksJ6_charAt_0 24 rfl rfl
theorem dJ6_charAt_0 : decode cJ6_charAt 0 = .ok (.aload_n 0, 1) := dk_42 (dk_at dksJ6_charAt_0 0 rfl rfl)
theorem dJ6_charAt_1 : decode cJ6_charAt 1 = .ok (.invokevirtual 492, 3) := dk_182 1 236 (dk_at dksJ6_charAt_0 1 rfl rfl)
theorem dJ6_charAt_4 : decode cJ6_charAt 4 = .ok (.ifCond .eq 12, 3) := dk_153 0 12 (dk_at dksJ6_charAt_0 4 rfl rfl)
theorem dJ6_charAt_7 : decode cJ6_charAt 7 = .ok (.aload_n 0, 1) := dk_42 (dk_at dksJ6_charAt_0 7 rfl rfl)
theorem dJ6_charAt_8 : decode cJ6_charAt 8 = .ok (.getfield 9, 3) := dk_180 0 9 (dk_at dksJ6_charAt_0 8 rfl rfl)
theorem dJ6_charAt_11 : decode cJ6_charAt 11 = .ok (.iload_n 1, 1) := dk_27 (dk_at dksJ6_charAt_0 11 rfl rfl)
theorem dJ6_charAt_12 : decode cJ6_charAt 12 = .ok (.invokestatic 495, 3) := dk_184 1 239 (dk_at dksJ6_charAt_0 12 rfl rfl)
theorem dJ6_charAt_15 : decode cJ6_charAt 15 = .ok (.ireturn, 1) := dk_172 (dk_at dksJ6_charAt_0 15 rfl rfl)
theorem dJ6_charAt_16 : decode cJ6_charAt 16 = .ok (.aload_n 0, 1) := dk_42 (dk_at dksJ6_charAt_0 16 rfl rfl)
theorem dJ6_charAt_17 : decode cJ6_charAt 17 = .ok (.getfield 9, 3) := dk_180 0 9 (dk_at dksJ6_charAt_0 17 rfl rfl)
theorem dJ6_charAt_20 : decode cJ6_charAt 20 = .ok (.iload_n 1, 1) := dk_27 (dk_at dksJ6_charAt_0 20 rfl rfl)
theorem dJ6_charAt_21 : decode cJ6_charAt 21 = .ok (.invokestatic 498, 3) := dk_184 1 242 (dk_at dksJ6_charAt_0 21 rfl rfl)
theorem dJ6_charAt_24 : decode cJ6_charAt 24 = .ok (.ireturn, 1) := dk_172 (dk_at dksJ6_charAt_1 0 rfl rfl)
abbrev cJ6_isLatin1 : ByteArray := prog_36_method_154_code
def yJ6_isLatin1 : MethodName := ⟨RJ6, "isLatin1", "()Z"⟩
def dkwJ6_isLatin1_0 : List UInt8 := [178, 0, 38, 153, 0, 14, 42, 180, 0, 15, 154, 0, 7, 4, 167, 0, 4, 3, 172]
abbrev dktJ6_isLatin1_0 : List UInt8 := dkwJ6_isLatin1_0 ++ []
theorem dksJ6_isLatin1_0 : cJ6_isLatin1.data.toList.drop 0 = dktJ6_isLatin1_0 := by decide +kernel
theorem dJ6_isLatin1_0 : decode cJ6_isLatin1 0 = .ok (.getstatic 38, 3) := dk_178 0 38 (dk_at dksJ6_isLatin1_0 0 rfl rfl)
theorem dJ6_isLatin1_3 : decode cJ6_isLatin1 3 = .ok (.ifCond .eq 14, 3) := dk_153 0 14 (dk_at dksJ6_isLatin1_0 3 rfl rfl)
theorem dJ6_isLatin1_6 : decode cJ6_isLatin1 6 = .ok (.aload_n 0, 1) := dk_42 (dk_at dksJ6_isLatin1_0 6 rfl rfl)
theorem dJ6_isLatin1_7 : decode cJ6_isLatin1 7 = .ok (.getfield 15, 3) := dk_180 0 15 (dk_at dksJ6_isLatin1_0 7 rfl rfl)
theorem dJ6_isLatin1_10 : decode cJ6_isLatin1 10 = .ok (.ifCond .ne 7, 3) := dk_154 0 7 (dk_at dksJ6_isLatin1_0 10 rfl rfl)
theorem dJ6_isLatin1_13 : decode cJ6_isLatin1 13 = .ok (.iconst 1, 1) := dk_4 (dk_at dksJ6_isLatin1_0 13 rfl rfl)
theorem dJ6_isLatin1_14 : decode cJ6_isLatin1 14 = .ok (.goto 4, 3) := dk_167 0 4 (dk_at dksJ6_isLatin1_0 14 rfl rfl)
theorem dJ6_isLatin1_17 : decode cJ6_isLatin1 17 = .ok (.iconst 0, 1) := dk_3 (dk_at dksJ6_isLatin1_0 17 rfl rfl)
theorem dJ6_isLatin1_18 : decode cJ6_isLatin1 18 = .ok (.ireturn, 1) := dk_172 (dk_at dksJ6_isLatin1_0 18 rfl rfl)
abbrev cJ6_checkIndex : ByteArray := prog_36_method_155_code
def yJ6_checkIndex : MethodName := ⟨RJ6, "checkIndex", "(II)V"⟩
def dkwJ6_checkIndex_0 : List UInt8 := [26, 27, 178, 4, 29, 184, 4, 35, 87, 177]
abbrev dktJ6_checkIndex_0 : List UInt8 := dkwJ6_checkIndex_0 ++ []
theorem dksJ6_checkIndex_0 : cJ6_checkIndex.data.toList.drop 0 = dktJ6_checkIndex_0 := by decide +kernel
theorem dJ6_checkIndex_0 : decode cJ6_checkIndex 0 = .ok (.iload_n 0, 1) := dk_26 (dk_at dksJ6_checkIndex_0 0 rfl rfl)
theorem dJ6_checkIndex_1 : decode cJ6_checkIndex 1 = .ok (.iload_n 1, 1) := dk_27 (dk_at dksJ6_checkIndex_0 1 rfl rfl)
theorem dJ6_checkIndex_2 : decode cJ6_checkIndex 2 = .ok (.getstatic 1053, 3) := dk_178 4 29 (dk_at dksJ6_checkIndex_0 2 rfl rfl)
theorem dJ6_checkIndex_5 : decode cJ6_checkIndex 5 = .ok (.invokestatic 1059, 3) := dk_184 4 35 (dk_at dksJ6_checkIndex_0 5 rfl rfl)
theorem dJ6_checkIndex_8 : decode cJ6_checkIndex 8 = .ok (.pop, 1) := dk_87 (dk_at dksJ6_checkIndex_0 8 rfl rfl)
theorem dJ6_checkIndex_9 : decode cJ6_checkIndex 9 = .ok (.return_, 1) := dk_177 (dk_at dksJ6_checkIndex_0 9 rfl rfl)
theorem q117 : (Jvm.Cond.initialized "java/lang/String") ∈ lw_all := lw_g (lw_at lw_m1 22 rfl) rfl
theorem q765 : (Jvm.Cond.instanceMethod ({ cls := "java/lang/String", name := "length", desc := "()I" } : Jvm.MethodName)) ∈ lw_all := lw_g (lw_at lw_m3 190 rfl) rfl
theorem q766 : (Jvm.Cond.selects "java/lang/String" ({ cls := "java/lang/String", name := "length", desc := "()I" } : Jvm.MethodName) ({ cls := "java/lang/String", name := "length", desc := "()I" } : Jvm.MethodName)) ∈ lw_all := lw_g (lw_at lw_m3 191 rfl) rfl
theorem q767 : (Jvm.Cond.code ({ cls := "java/lang/String", name := "length", desc := "()I" } : Jvm.MethodName) prog_36_method_54_code (1 : Nat) (Option.some Jvm.ClassFile.FieldType.int)) ∈ lw_all := lw_g (lw_at lw_m3 192 rfl) rfl
theorem q768 : (Jvm.Cond.methodLink "java/lang/String" (335 : Nat) ({ cls := "java/lang/String", name := "coder", desc := "()B" } : Jvm.MethodName)) ∈ lw_all := lw_g (lw_at lw_m3 193 rfl) rfl
theorem q769 : (Jvm.Cond.instanceMethod ({ cls := "java/lang/String", name := "coder", desc := "()B" } : Jvm.MethodName)) ∈ lw_all := lw_g (lw_at lw_m3 194 rfl) rfl
theorem q770 : (Jvm.Cond.selects "java/lang/String" ({ cls := "java/lang/String", name := "coder", desc := "()B" } : Jvm.MethodName) ({ cls := "java/lang/String", name := "coder", desc := "()B" } : Jvm.MethodName)) ∈ lw_all := lw_g (lw_at lw_m3 195 rfl) rfl
theorem q771 : (Jvm.Cond.code ({ cls := "java/lang/String", name := "coder", desc := "()B" } : Jvm.MethodName) prog_36_method_152_code (1 : Nat) (Option.some Jvm.ClassFile.FieldType.byte)) ∈ lw_all := lw_g (lw_at lw_m3 196 rfl) rfl
theorem q772 : (Jvm.Cond.fieldLink "java/lang/String" (38 : Nat) "java/lang/String" "COMPACT_STRINGS" "Z") ∈ lw_all := lw_g (lw_at lw_m3 197 rfl) rfl
theorem q773 : (Jvm.Cond.laysStatic "java/lang/String" "COMPACT_STRINGS" "Z") ∈ lw_tbl := lw_at lw_m3 198 rfl
theorem q775 : (Jvm.Cond.instanceMethod ({ cls := "java/lang/String", name := "charAt", desc := "(I)C" } : Jvm.MethodName)) ∈ lw_all := lw_g (lw_at lw_m3 200 rfl) rfl
theorem q776 : (Jvm.Cond.selects "java/lang/String" ({ cls := "java/lang/String", name := "charAt", desc := "(I)C" } : Jvm.MethodName) ({ cls := "java/lang/String", name := "charAt", desc := "(I)C" } : Jvm.MethodName)) ∈ lw_all := lw_g (lw_at lw_m3 201 rfl) rfl
theorem q777 : (Jvm.Cond.code ({ cls := "java/lang/String", name := "charAt", desc := "(I)C" } : Jvm.MethodName) prog_36_method_56_code (2 : Nat) (Option.some Jvm.ClassFile.FieldType.char)) ∈ lw_all := lw_g (lw_at lw_m3 202 rfl) rfl
theorem q778 : (Jvm.Cond.methodLink "java/lang/String" (492 : Nat) ({ cls := "java/lang/String", name := "isLatin1", desc := "()Z" } : Jvm.MethodName)) ∈ lw_all := lw_g (lw_at lw_m3 203 rfl) rfl
theorem q779 : (Jvm.Cond.instanceMethod ({ cls := "java/lang/String", name := "isLatin1", desc := "()Z" } : Jvm.MethodName)) ∈ lw_all := lw_g (lw_at lw_m3 204 rfl) rfl
theorem q780 : (Jvm.Cond.selects "java/lang/String" ({ cls := "java/lang/String", name := "isLatin1", desc := "()Z" } : Jvm.MethodName) ({ cls := "java/lang/String", name := "isLatin1", desc := "()Z" } : Jvm.MethodName)) ∈ lw_all := lw_g (lw_at lw_m3 205 rfl) rfl
theorem q781 : (Jvm.Cond.code ({ cls := "java/lang/String", name := "isLatin1", desc := "()Z" } : Jvm.MethodName) prog_36_method_154_code (1 : Nat) (Option.some Jvm.ClassFile.FieldType.boolean)) ∈ lw_all := lw_g (lw_at lw_m3 206 rfl) rfl
theorem q782 : (Jvm.Cond.methodLink "java/lang/String" (495 : Nat) ({ cls := "java/lang/StringLatin1", name := "charAt", desc := "([BI)C" } : Jvm.MethodName)) ∈ lw_all := lw_g (lw_at lw_m3 207 rfl) rfl
theorem q786 : (Jvm.Cond.static ({ cls := "java/lang/String", name := "checkIndex", desc := "(II)V" } : Jvm.MethodName)) ∈ lw_all := lw_g (lw_at lw_m3 211 rfl) rfl
theorem q787 : (Jvm.Cond.code ({ cls := "java/lang/String", name := "checkIndex", desc := "(II)V" } : Jvm.MethodName) prog_36_method_155_code (2 : Nat) (Option.none : Option Jvm.ClassFile.FieldType)) ∈ lw_all := lw_g (lw_at lw_m3 212 rfl) rfl
theorem q788 : (Jvm.Cond.fieldLink "java/lang/String" (1053 : Nat) "jdk/internal/util/Preconditions" "SIOOBE_FORMATTER" "Ljava/util/function/BiFunction;") ∈ lw_all := lw_g (lw_at lw_m3 213 rfl) rfl
theorem q790 : (Jvm.Cond.methodLink "java/lang/String" (1059 : Nat) ({ cls := "jdk/internal/util/Preconditions", name := "checkIndex", desc := "(IILjava/util/function/BiFunction;)I" } : Jvm.MethodName)) ∈ lw_all := lw_g (lw_at lw_m3 215 rfl) rfl
theorem q791 : (Jvm.Cond.methodLink "java/lang/String" (498 : Nat) ({ cls := "java/lang/StringUTF16", name := "charAt", desc := "([BI)C" } : Jvm.MethodName)) ∈ lw_all := lw_g (lw_at lw_m3 216 rfl) rfl
theorem q1266 : (Jvm.Cond.instantiable "java/lang/String" (4 : Nat)) ∈ lw_all := lw_g (lw_at lw_m5 211 rfl) rfl
theorem q1267 : (Jvm.Cond.laysFinal "java/lang/String" "java/lang/String" "value" "[B") ∈ lw_all := lw_g (lw_at lw_m5 212 rfl) rfl
theorem q1268 : (Jvm.Cond.soleField "java/lang/String" "value") ∈ lw_all := lw_g (lw_at lw_m5 213 rfl) rfl
theorem q1269 : (Jvm.Cond.laysFinal "java/lang/String" "java/lang/String" "coder" "B") ∈ lw_all := lw_g (lw_at lw_m5 214 rfl) rfl
theorem q1270 : (Jvm.Cond.soleField "java/lang/String" "coder") ∈ lw_all := lw_g (lw_at lw_m5 215 rfl) rfl
theorem q2201 : (Jvm.Cond.castable "java/lang/String" "java/lang/Object") ∈ lw_tbl := lw_at lw_m9 186 rfl
theorem q2213 : (Jvm.Cond.fieldLink "java/lang/String" (9 : Nat) "java/lang/String" "value" "[B") ∈ lw_all := lw_g (lw_at lw_m9 198 rfl) rfl
theorem q2214 : (Jvm.Cond.fieldLink "java/lang/String" (15 : Nat) "java/lang/String" "coder" "B") ∈ lw_all := lw_g (lw_at lw_m9 199 rfl) rfl
theorem in_J6 : ∀ w ∈ wsJ60, w ∈ lw_all := lw_in wsJ60 [1267, 1269] (by decide +kernel) (by decide +kernel)

/-! java/lang/StringLatin1 -/
set_option maxRecDepth 100000
def RJ7 : String := "java/lang/StringLatin1"
abbrev cJ7_charAt : ByteArray := prog_37_method_2_code
def yJ7_charAt : MethodName := ⟨RJ7, "charAt", "([BI)C"⟩
def dkwJ7_charAt_0 : List UInt8 := [27, 42, 190, 184, 0, 9, 42, 27, 51, 17, 0, 255, 126, 146, 172]
abbrev dktJ7_charAt_0 : List UInt8 := dkwJ7_charAt_0 ++ []
theorem dksJ7_charAt_0 : cJ7_charAt.data.toList.drop 0 = dktJ7_charAt_0 := by decide +kernel
theorem dJ7_charAt_0 : decode cJ7_charAt 0 = .ok (.iload_n 1, 1) := dk_27 (dk_at dksJ7_charAt_0 0 rfl rfl)
theorem dJ7_charAt_1 : decode cJ7_charAt 1 = .ok (.aload_n 0, 1) := dk_42 (dk_at dksJ7_charAt_0 1 rfl rfl)
theorem dJ7_charAt_2 : decode cJ7_charAt 2 = .ok (.arraylength, 1) := dk_190 (dk_at dksJ7_charAt_0 2 rfl rfl)
theorem dJ7_charAt_3 : decode cJ7_charAt 3 = .ok (.invokestatic 9, 3) := dk_184 0 9 (dk_at dksJ7_charAt_0 3 rfl rfl)
theorem dJ7_charAt_6 : decode cJ7_charAt 6 = .ok (.aload_n 0, 1) := dk_42 (dk_at dksJ7_charAt_0 6 rfl rfl)
theorem dJ7_charAt_7 : decode cJ7_charAt 7 = .ok (.iload_n 1, 1) := dk_27 (dk_at dksJ7_charAt_0 7 rfl rfl)
theorem dJ7_charAt_8 : decode cJ7_charAt 8 = .ok (.baload, 1) := dk_51 (dk_at dksJ7_charAt_0 8 rfl rfl)
theorem dJ7_charAt_9 : decode cJ7_charAt 9 = .ok (.sipush 255, 3) := dk_17 0 255 (dk_at dksJ7_charAt_0 9 rfl rfl)
theorem dJ7_charAt_12 : decode cJ7_charAt 12 = .ok (.iand, 1) := dk_126 (dk_at dksJ7_charAt_0 12 rfl rfl)
theorem dJ7_charAt_13 : decode cJ7_charAt 13 = .ok (.i2c, 1) := dk_146 (dk_at dksJ7_charAt_0 13 rfl rfl)
theorem dJ7_charAt_14 : decode cJ7_charAt 14 = .ok (.ireturn, 1) := dk_172 (dk_at dksJ7_charAt_0 14 rfl rfl)
theorem q118 : (Jvm.Cond.initialized "java/lang/StringLatin1") ∈ lw_all := lw_g (lw_at lw_m1 23 rfl) rfl
theorem q783 : (Jvm.Cond.static ({ cls := "java/lang/StringLatin1", name := "charAt", desc := "([BI)C" } : Jvm.MethodName)) ∈ lw_all := lw_g (lw_at lw_m3 208 rfl) rfl
theorem q784 : (Jvm.Cond.code ({ cls := "java/lang/StringLatin1", name := "charAt", desc := "([BI)C" } : Jvm.MethodName) prog_37_method_2_code (2 : Nat) (Option.some Jvm.ClassFile.FieldType.char)) ∈ lw_all := lw_g (lw_at lw_m3 209 rfl) rfl
theorem q785 : (Jvm.Cond.methodLink "java/lang/StringLatin1" (9 : Nat) ({ cls := "java/lang/String", name := "checkIndex", desc := "(II)V" } : Jvm.MethodName)) ∈ lw_all := lw_g (lw_at lw_m3 210 rfl) rfl

/-! java/lang/StringUTF16 -/
set_option maxRecDepth 100000
def RJ8 : String := "java/lang/StringUTF16"
abbrev cJ8_charAt : ByteArray := prog_38_method_83_code
def yJ8_charAt : MethodName := ⟨RJ8, "charAt", "([BI)C"⟩
def dkwJ8_charAt_0 : List UInt8 := [27, 42, 184, 0, 67, 42, 27, 184, 0, 71, 172]
abbrev dktJ8_charAt_0 : List UInt8 := dkwJ8_charAt_0 ++ []
theorem dksJ8_charAt_0 : cJ8_charAt.data.toList.drop 0 = dktJ8_charAt_0 := by decide +kernel
theorem dJ8_charAt_0 : decode cJ8_charAt 0 = .ok (.iload_n 1, 1) := dk_27 (dk_at dksJ8_charAt_0 0 rfl rfl)
theorem dJ8_charAt_1 : decode cJ8_charAt 1 = .ok (.aload_n 0, 1) := dk_42 (dk_at dksJ8_charAt_0 1 rfl rfl)
theorem dJ8_charAt_2 : decode cJ8_charAt 2 = .ok (.invokestatic 67, 3) := dk_184 0 67 (dk_at dksJ8_charAt_0 2 rfl rfl)
theorem dJ8_charAt_5 : decode cJ8_charAt 5 = .ok (.aload_n 0, 1) := dk_42 (dk_at dksJ8_charAt_0 5 rfl rfl)
theorem dJ8_charAt_6 : decode cJ8_charAt 6 = .ok (.iload_n 1, 1) := dk_27 (dk_at dksJ8_charAt_0 6 rfl rfl)
theorem dJ8_charAt_7 : decode cJ8_charAt 7 = .ok (.invokestatic 71, 3) := dk_184 0 71 (dk_at dksJ8_charAt_0 7 rfl rfl)
theorem dJ8_charAt_10 : decode cJ8_charAt 10 = .ok (.ireturn, 1) := dk_172 (dk_at dksJ8_charAt_0 10 rfl rfl)
abbrev cJ8_checkIndex : ByteArray := prog_38_method_91_code
def yJ8_checkIndex : MethodName := ⟨RJ8, "checkIndex", "(I[B)V"⟩
def dkwJ8_checkIndex_0 : List UInt8 := [26, 43, 184, 0, 48, 184, 1, 158, 177]
abbrev dktJ8_checkIndex_0 : List UInt8 := dkwJ8_checkIndex_0 ++ []
theorem dksJ8_checkIndex_0 : cJ8_checkIndex.data.toList.drop 0 = dktJ8_checkIndex_0 := by decide +kernel
theorem dJ8_checkIndex_0 : decode cJ8_checkIndex 0 = .ok (.iload_n 0, 1) := dk_26 (dk_at dksJ8_checkIndex_0 0 rfl rfl)
theorem dJ8_checkIndex_1 : decode cJ8_checkIndex 1 = .ok (.aload_n 1, 1) := dk_43 (dk_at dksJ8_checkIndex_0 1 rfl rfl)
theorem dJ8_checkIndex_2 : decode cJ8_checkIndex 2 = .ok (.invokestatic 48, 3) := dk_184 0 48 (dk_at dksJ8_checkIndex_0 2 rfl rfl)
theorem dJ8_checkIndex_5 : decode cJ8_checkIndex 5 = .ok (.invokestatic 414, 3) := dk_184 1 158 (dk_at dksJ8_checkIndex_0 5 rfl rfl)
theorem dJ8_checkIndex_8 : decode cJ8_checkIndex 8 = .ok (.return_, 1) := dk_177 (dk_at dksJ8_checkIndex_0 8 rfl rfl)
abbrev cJ8_length : ByteArray := prog_38_method_6_code
def yJ8_length : MethodName := ⟨RJ8, "length", "([B)I"⟩
def dkwJ8_length_0 : List UInt8 := [42, 190, 4, 122, 172]
abbrev dktJ8_length_0 : List UInt8 := dkwJ8_length_0 ++ []
theorem dksJ8_length_0 : cJ8_length.data.toList.drop 0 = dktJ8_length_0 := by decide +kernel
theorem dJ8_length_0 : decode cJ8_length 0 = .ok (.aload_n 0, 1) := dk_42 (dk_at dksJ8_length_0 0 rfl rfl)
theorem dJ8_length_1 : decode cJ8_length 1 = .ok (.arraylength, 1) := dk_190 (dk_at dksJ8_length_0 1 rfl rfl)
theorem dJ8_length_2 : decode cJ8_length 2 = .ok (.iconst 1, 1) := dk_4 (dk_at dksJ8_length_0 2 rfl rfl)
theorem dJ8_length_3 : decode cJ8_length 3 = .ok (.ishr, 1) := dk_122 (dk_at dksJ8_length_0 3 rfl rfl)
theorem dJ8_length_4 : decode cJ8_length 4 = .ok (.ireturn, 1) := dk_172 (dk_at dksJ8_length_0 4 rfl rfl)
abbrev cJ8_getChar : ByteArray := prog_38_method_5_code
def yJ8_getChar : MethodName := ⟨RJ8, "getChar", "([BI)C"⟩
def dkwJ8_getChar_2 : List UInt8 := [51, 17, 0, 255, 126, 178, 0, 63, 120, 128, 146, 172]
abbrev dktJ8_getChar_2 : List UInt8 := dkwJ8_getChar_2 ++ []
def dkwJ8_getChar_1 : List UInt8 := [183, 0, 56, 191, 27, 4, 120, 60, 42, 27, 132, 1, 1, 51, 17, 0, 255, 126, 178, 0, 59, 120, 42, 27]
abbrev dktJ8_getChar_1 : List UInt8 := dkwJ8_getChar_1 ++ dktJ8_getChar_2
def dkwJ8_getChar_0 : List UInt8 := [178, 0, 44, 154, 0, 25, 27, 155, 0, 11, 27, 42, 184, 0, 48, 161, 0, 13, 187, 0, 52, 89, 18, 54]
abbrev dktJ8_getChar_0 : List UInt8 := dkwJ8_getChar_0 ++ dktJ8_getChar_1
theorem dksJ8_getChar_0 : cJ8_getChar.data.toList.drop 0 = dktJ8_getChar_0 := by decide +kernel
theorem dksJ8_getChar_1 : cJ8_getChar.data.toList.drop 24 = dktJ8_getChar_1 := dk_seg dksJ8_getChar_0 24 rfl rfl
theorem dksJ8_getChar_2 : cJ8_getChar.data.toList.drop 48 = dktJ8_getChar_2 := dk_seg dksJ8_getChar_1 24 rfl rfl
theorem dJ8_getChar_0 : decode cJ8_getChar 0 = .ok (.getstatic 44, 3) := dk_178 0 44 (dk_at dksJ8_getChar_0 0 rfl rfl)
theorem dJ8_getChar_3 : decode cJ8_getChar 3 = .ok (.ifCond .ne 25, 3) := dk_154 0 25 (dk_at dksJ8_getChar_0 3 rfl rfl)
theorem dJ8_getChar_6 : decode cJ8_getChar 6 = .ok (.iload_n 1, 1) := dk_27 (dk_at dksJ8_getChar_0 6 rfl rfl)
theorem dJ8_getChar_7 : decode cJ8_getChar 7 = .ok (.ifCond .lt 11, 3) := dk_155 0 11 (dk_at dksJ8_getChar_0 7 rfl rfl)
theorem dJ8_getChar_10 : decode cJ8_getChar 10 = .ok (.iload_n 1, 1) := dk_27 (dk_at dksJ8_getChar_0 10 rfl rfl)
theorem dJ8_getChar_11 : decode cJ8_getChar 11 = .ok (.aload_n 0, 1) := dk_42 (dk_at dksJ8_getChar_0 11 rfl rfl)
theorem dJ8_getChar_12 : decode cJ8_getChar 12 = .ok (.invokestatic 48, 3) := dk_184 0 48 (dk_at dksJ8_getChar_0 12 rfl rfl)
theorem dJ8_getChar_15 : decode cJ8_getChar 15 = .ok (.if_icmp .lt 13, 3) := dk_161 0 13 (dk_at dksJ8_getChar_0 15 rfl rfl)
theorem dJ8_getChar_18 : decode cJ8_getChar 18 = .ok (.new 52, 3) := dk_187 0 52 (dk_at dksJ8_getChar_0 18 rfl rfl)
theorem dJ8_getChar_21 : decode cJ8_getChar 21 = .ok (.dup, 1) := dk_89 (dk_at dksJ8_getChar_0 21 rfl rfl)
theorem dJ8_getChar_22 : decode cJ8_getChar 22 = .ok (.ldc 54, 2) := dk_18 54 (dk_at dksJ8_getChar_0 22 rfl rfl)
theorem dJ8_getChar_24 : decode cJ8_getChar 24 = .ok (.invokespecial 56, 3) := dk_183 0 56 (dk_at dksJ8_getChar_1 0 rfl rfl)
theorem dJ8_getChar_27 : decode cJ8_getChar 27 = .ok (.athrow, 1) := dk_191 (dk_at dksJ8_getChar_1 3 rfl rfl)
theorem dJ8_getChar_28 : decode cJ8_getChar 28 = .ok (.iload_n 1, 1) := dk_27 (dk_at dksJ8_getChar_1 4 rfl rfl)
theorem dJ8_getChar_29 : decode cJ8_getChar 29 = .ok (.iconst 1, 1) := dk_4 (dk_at dksJ8_getChar_1 5 rfl rfl)
theorem dJ8_getChar_30 : decode cJ8_getChar 30 = .ok (.ishl, 1) := dk_120 (dk_at dksJ8_getChar_1 6 rfl rfl)
theorem dJ8_getChar_31 : decode cJ8_getChar 31 = .ok (.istore_n 1, 1) := dk_60 (dk_at dksJ8_getChar_1 7 rfl rfl)
theorem dJ8_getChar_32 : decode cJ8_getChar 32 = .ok (.aload_n 0, 1) := dk_42 (dk_at dksJ8_getChar_1 8 rfl rfl)
theorem dJ8_getChar_33 : decode cJ8_getChar 33 = .ok (.iload_n 1, 1) := dk_27 (dk_at dksJ8_getChar_1 9 rfl rfl)
theorem dJ8_getChar_34 : decode cJ8_getChar 34 = .ok (.iinc 1 1, 3) := dk_132 1 1 (dk_at dksJ8_getChar_1 10 rfl rfl)
theorem dJ8_getChar_37 : decode cJ8_getChar 37 = .ok (.baload, 1) := dk_51 (dk_at dksJ8_getChar_1 13 rfl rfl)
theorem dJ8_getChar_38 : decode cJ8_getChar 38 = .ok (.sipush 255, 3) := dk_17 0 255 (dk_at dksJ8_getChar_1 14 rfl rfl)
theorem dJ8_getChar_41 : decode cJ8_getChar 41 = .ok (.iand, 1) := dk_126 (dk_at dksJ8_getChar_1 17 rfl rfl)
theorem dJ8_getChar_42 : decode cJ8_getChar 42 = .ok (.getstatic 59, 3) := dk_178 0 59 (dk_at dksJ8_getChar_1 18 rfl rfl)
theorem dJ8_getChar_45 : decode cJ8_getChar 45 = .ok (.ishl, 1) := dk_120 (dk_at dksJ8_getChar_1 21 rfl rfl)
theorem dJ8_getChar_46 : decode cJ8_getChar 46 = .ok (.aload_n 0, 1) := dk_42 (dk_at dksJ8_getChar_1 22 rfl rfl)
theorem dJ8_getChar_47 : decode cJ8_getChar 47 = .ok (.iload_n 1, 1) := dk_27 (dk_at dksJ8_getChar_1 23 rfl rfl)
theorem dJ8_getChar_48 : decode cJ8_getChar 48 = .ok (.baload, 1) := dk_51 (dk_at dksJ8_getChar_2 0 rfl rfl)
theorem dJ8_getChar_49 : decode cJ8_getChar 49 = .ok (.sipush 255, 3) := dk_17 0 255 (dk_at dksJ8_getChar_2 1 rfl rfl)
theorem dJ8_getChar_52 : decode cJ8_getChar 52 = .ok (.iand, 1) := dk_126 (dk_at dksJ8_getChar_2 4 rfl rfl)
theorem dJ8_getChar_53 : decode cJ8_getChar 53 = .ok (.getstatic 63, 3) := dk_178 0 63 (dk_at dksJ8_getChar_2 5 rfl rfl)
theorem dJ8_getChar_56 : decode cJ8_getChar 56 = .ok (.ishl, 1) := dk_120 (dk_at dksJ8_getChar_2 8 rfl rfl)
theorem dJ8_getChar_57 : decode cJ8_getChar 57 = .ok (.ior, 1) := dk_128 (dk_at dksJ8_getChar_2 9 rfl rfl)
theorem dJ8_getChar_58 : decode cJ8_getChar 58 = .ok (.i2c, 1) := dk_146 (dk_at dksJ8_getChar_2 10 rfl rfl)
theorem dJ8_getChar_59 : decode cJ8_getChar 59 = .ok (.ireturn, 1) := dk_172 (dk_at dksJ8_getChar_2 11 rfl rfl)
theorem q119 : (Jvm.Cond.initialized "java/lang/StringUTF16") ∈ lw_all := lw_g (lw_at lw_m1 24 rfl) rfl
theorem q792 : (Jvm.Cond.static ({ cls := "java/lang/StringUTF16", name := "charAt", desc := "([BI)C" } : Jvm.MethodName)) ∈ lw_all := lw_g (lw_at lw_m3 217 rfl) rfl
theorem q793 : (Jvm.Cond.code ({ cls := "java/lang/StringUTF16", name := "charAt", desc := "([BI)C" } : Jvm.MethodName) prog_38_method_83_code (2 : Nat) (Option.some Jvm.ClassFile.FieldType.char)) ∈ lw_all := lw_g (lw_at lw_m3 218 rfl) rfl
theorem q794 : (Jvm.Cond.methodLink "java/lang/StringUTF16" (67 : Nat) ({ cls := "java/lang/StringUTF16", name := "checkIndex", desc := "(I[B)V" } : Jvm.MethodName)) ∈ lw_all := lw_g (lw_at lw_m3 219 rfl) rfl
theorem q795 : (Jvm.Cond.static ({ cls := "java/lang/StringUTF16", name := "checkIndex", desc := "(I[B)V" } : Jvm.MethodName)) ∈ lw_all := lw_g (lw_at lw_m3 220 rfl) rfl
theorem q796 : (Jvm.Cond.code ({ cls := "java/lang/StringUTF16", name := "checkIndex", desc := "(I[B)V" } : Jvm.MethodName) prog_38_method_91_code (2 : Nat) (Option.none : Option Jvm.ClassFile.FieldType)) ∈ lw_all := lw_g (lw_at lw_m3 221 rfl) rfl
theorem q797 : (Jvm.Cond.methodLink "java/lang/StringUTF16" (48 : Nat) ({ cls := "java/lang/StringUTF16", name := "length", desc := "([B)I" } : Jvm.MethodName)) ∈ lw_all := lw_g (lw_at lw_m3 222 rfl) rfl
theorem q798 : (Jvm.Cond.static ({ cls := "java/lang/StringUTF16", name := "length", desc := "([B)I" } : Jvm.MethodName)) ∈ lw_all := lw_g (lw_at lw_m3 223 rfl) rfl
theorem q799 : (Jvm.Cond.code ({ cls := "java/lang/StringUTF16", name := "length", desc := "([B)I" } : Jvm.MethodName) prog_38_method_6_code (1 : Nat) (Option.some Jvm.ClassFile.FieldType.int)) ∈ lw_all := lw_g (lw_at lw_m3 224 rfl) rfl
theorem q800 : (Jvm.Cond.methodLink "java/lang/StringUTF16" (414 : Nat) ({ cls := "java/lang/String", name := "checkIndex", desc := "(II)V" } : Jvm.MethodName)) ∈ lw_all := lw_g (lw_at lw_m3 225 rfl) rfl
theorem q801 : (Jvm.Cond.methodLink "java/lang/StringUTF16" (71 : Nat) ({ cls := "java/lang/StringUTF16", name := "getChar", desc := "([BI)C" } : Jvm.MethodName)) ∈ lw_all := lw_g (lw_at lw_m3 226 rfl) rfl
theorem q802 : (Jvm.Cond.static ({ cls := "java/lang/StringUTF16", name := "getChar", desc := "([BI)C" } : Jvm.MethodName)) ∈ lw_all := lw_g (lw_at lw_m3 227 rfl) rfl
theorem q803 : (Jvm.Cond.code ({ cls := "java/lang/StringUTF16", name := "getChar", desc := "([BI)C" } : Jvm.MethodName) prog_38_method_5_code (2 : Nat) (Option.some Jvm.ClassFile.FieldType.char)) ∈ lw_all := lw_g (lw_at lw_m3 228 rfl) rfl
theorem q804 : (Jvm.Cond.fieldLink "java/lang/StringUTF16" (44 : Nat) "java/lang/StringUTF16" "$assertionsDisabled" "Z") ∈ lw_all := lw_g (lw_at lw_m3 229 rfl) rfl
theorem q805 : (Jvm.Cond.laysStatic "java/lang/StringUTF16" "$assertionsDisabled" "Z") ∈ lw_tbl := lw_at lw_m3 230 rfl
theorem q806 : (Jvm.Cond.fieldLink "java/lang/StringUTF16" (59 : Nat) "java/lang/StringUTF16" "HI_BYTE_SHIFT" "I") ∈ lw_all := lw_g (lw_at lw_m3 231 rfl) rfl
theorem q807 : (Jvm.Cond.laysStatic "java/lang/StringUTF16" "HI_BYTE_SHIFT" "I") ∈ lw_tbl := lw_at lw_m3 232 rfl
theorem q808 : (Jvm.Cond.fieldLink "java/lang/StringUTF16" (63 : Nat) "java/lang/StringUTF16" "LO_BYTE_SHIFT" "I") ∈ lw_all := lw_g (lw_at lw_m3 233 rfl) rfl
theorem q809 : (Jvm.Cond.laysStatic "java/lang/StringUTF16" "LO_BYTE_SHIFT" "I") ∈ lw_tbl := lw_at lw_m3 234 rfl

/-! java/lang/Throwable -/
set_option maxRecDepth 100000
def RJ9 : String := "java/lang/Throwable"
def TJ9 : u_T := fun k => match k with
  | 0 => ("java/lang/Throwable", "cause", "Ljava/lang/Throwable;", false)
  | 1 => ("java/lang/Throwable", "stackTrace", "[Ljava/lang/StackTraceElement;", false)
  | 2 => ("java/lang/Throwable", "suppressedExceptions", "Ljava/util/List;", false)
  | 3 => ("java/lang/Throwable", "detailMessage", "Ljava/lang/String;", false)
  | _ => ("java/lang/Throwable", "backtrace", "Ljava/lang/Object;", false)
def tyJ9 : Nat → FieldType := fun k => match k with
  | 0 => .object "java/lang/Throwable"
  | 1 => .array (.object "java/lang/StackTraceElement")
  | 2 => .object "java/util/List"
  | 3 => .object "java/lang/String"
  | _ => .object "java/lang/Object"
abbrev wsJ90 : List Cond := u_ws RJ9 TJ9 5
theorem nmJ9 : ∀ a, a < 5 → ∀ b, b < 5 → a ≠ b → (TJ9 a).2.1 ≠ (TJ9 b).2.1 := by decide +kernel
theorem tyJ9_ok : ∀ k, k < 5 → parseFieldDescriptor (TJ9 k).2.2.1 = some (tyJ9 k) := by decide +kernel
abbrev cJ9_init : ByteArray := prog_40_method_1_code
def yJ9_init : MethodName := ⟨RJ9, "<init>", "()V"⟩
def dkwJ9_init_1 : List UInt8 := [182, 0, 27, 87, 177]
abbrev dktJ9_init_1 : List UInt8 := dkwJ9_init_1 ++ []
def dkwJ9_init_0 : List UInt8 := [42, 183, 0, 1, 42, 42, 181, 0, 7, 42, 178, 0, 13, 181, 0, 17, 42, 178, 0, 20, 181, 0, 24, 42]
abbrev dktJ9_init_0 : List UInt8 := dkwJ9_init_0 ++ dktJ9_init_1
theorem dksJ9_init_0 : cJ9_init.data.toList.drop 0 = dktJ9_init_0 := by decide +kernel
theorem dksJ9_init_1 : cJ9_init.data.toList.drop 24 = dktJ9_init_1 := dk_seg dksJ9_init_0 24 rfl rfl
theorem dJ9_init_0 : decode cJ9_init 0 = .ok (.aload_n 0, 1) := dk_42 (dk_at dksJ9_init_0 0 rfl rfl)
theorem dJ9_init_1 : decode cJ9_init 1 = .ok (.invokespecial 1, 3) := dk_183 0 1 (dk_at dksJ9_init_0 1 rfl rfl)
theorem dJ9_init_4 : decode cJ9_init 4 = .ok (.aload_n 0, 1) := dk_42 (dk_at dksJ9_init_0 4 rfl rfl)
theorem dJ9_init_5 : decode cJ9_init 5 = .ok (.aload_n 0, 1) := dk_42 (dk_at dksJ9_init_0 5 rfl rfl)
theorem dJ9_init_6 : decode cJ9_init 6 = .ok (.putfield 7, 3) := dk_181 0 7 (dk_at dksJ9_init_0 6 rfl rfl)
theorem dJ9_init_9 : decode cJ9_init 9 = .ok (.aload_n 0, 1) := dk_42 (dk_at dksJ9_init_0 9 rfl rfl)
theorem dJ9_init_10 : decode cJ9_init 10 = .ok (.getstatic 13, 3) := dk_178 0 13 (dk_at dksJ9_init_0 10 rfl rfl)
theorem dJ9_init_13 : decode cJ9_init 13 = .ok (.putfield 17, 3) := dk_181 0 17 (dk_at dksJ9_init_0 13 rfl rfl)
theorem dJ9_init_16 : decode cJ9_init 16 = .ok (.aload_n 0, 1) := dk_42 (dk_at dksJ9_init_0 16 rfl rfl)
theorem dJ9_init_17 : decode cJ9_init 17 = .ok (.getstatic 20, 3) := dk_178 0 20 (dk_at dksJ9_init_0 17 rfl rfl)
theorem dJ9_init_20 : decode cJ9_init 20 = .ok (.putfield 24, 3) := dk_181 0 24 (dk_at dksJ9_init_0 20 rfl rfl)
theorem dJ9_init_23 : decode cJ9_init 23 = .ok (.aload_n 0, 1) := dk_42 (dk_at dksJ9_init_0 23 rfl rfl)
theorem dJ9_init_24 : decode cJ9_init 24 = .ok (.invokevirtual 27, 3) := dk_182 0 27 (dk_at dksJ9_init_1 0 rfl rfl)
theorem dJ9_init_27 : decode cJ9_init 27 = .ok (.pop, 1) := dk_87 (dk_at dksJ9_init_1 3 rfl rfl)
theorem dJ9_init_28 : decode cJ9_init 28 = .ok (.return_, 1) := dk_177 (dk_at dksJ9_init_1 4 rfl rfl)
abbrev cJ9_init_2 : ByteArray := prog_40_method_2_code
def yJ9_init_2 : MethodName := ⟨RJ9, "<init>", "(Ljava/lang/String;)V"⟩
def dkwJ9_init_2_1 : List UInt8 := [182, 0, 27, 87, 42, 43, 181, 0, 31, 177]
abbrev dktJ9_init_2_1 : List UInt8 := dkwJ9_init_2_1 ++ []
def dkwJ9_init_2_0 : List UInt8 := [42, 183, 0, 1, 42, 42, 181, 0, 7, 42, 178, 0, 13, 181, 0, 17, 42, 178, 0, 20, 181, 0, 24, 42]
abbrev dktJ9_init_2_0 : List UInt8 := dkwJ9_init_2_0 ++ dktJ9_init_2_1
theorem dksJ9_init_2_0 : cJ9_init_2.data.toList.drop 0 = dktJ9_init_2_0 := by decide +kernel
theorem dksJ9_init_2_1 : cJ9_init_2.data.toList.drop 24 = dktJ9_init_2_1 := dk_seg dksJ9_init_2_0 24 rfl rfl
theorem dJ9_init_2_0 : decode cJ9_init_2 0 = .ok (.aload_n 0, 1) := dk_42 (dk_at dksJ9_init_2_0 0 rfl rfl)
theorem dJ9_init_2_1 : decode cJ9_init_2 1 = .ok (.invokespecial 1, 3) := dk_183 0 1 (dk_at dksJ9_init_2_0 1 rfl rfl)
theorem dJ9_init_2_4 : decode cJ9_init_2 4 = .ok (.aload_n 0, 1) := dk_42 (dk_at dksJ9_init_2_0 4 rfl rfl)
theorem dJ9_init_2_5 : decode cJ9_init_2 5 = .ok (.aload_n 0, 1) := dk_42 (dk_at dksJ9_init_2_0 5 rfl rfl)
theorem dJ9_init_2_6 : decode cJ9_init_2 6 = .ok (.putfield 7, 3) := dk_181 0 7 (dk_at dksJ9_init_2_0 6 rfl rfl)
theorem dJ9_init_2_9 : decode cJ9_init_2 9 = .ok (.aload_n 0, 1) := dk_42 (dk_at dksJ9_init_2_0 9 rfl rfl)
theorem dJ9_init_2_10 : decode cJ9_init_2 10 = .ok (.getstatic 13, 3) := dk_178 0 13 (dk_at dksJ9_init_2_0 10 rfl rfl)
theorem dJ9_init_2_13 : decode cJ9_init_2 13 = .ok (.putfield 17, 3) := dk_181 0 17 (dk_at dksJ9_init_2_0 13 rfl rfl)
theorem dJ9_init_2_16 : decode cJ9_init_2 16 = .ok (.aload_n 0, 1) := dk_42 (dk_at dksJ9_init_2_0 16 rfl rfl)
theorem dJ9_init_2_17 : decode cJ9_init_2 17 = .ok (.getstatic 20, 3) := dk_178 0 20 (dk_at dksJ9_init_2_0 17 rfl rfl)
theorem dJ9_init_2_20 : decode cJ9_init_2 20 = .ok (.putfield 24, 3) := dk_181 0 24 (dk_at dksJ9_init_2_0 20 rfl rfl)
theorem dJ9_init_2_23 : decode cJ9_init_2 23 = .ok (.aload_n 0, 1) := dk_42 (dk_at dksJ9_init_2_0 23 rfl rfl)
theorem dJ9_init_2_24 : decode cJ9_init_2 24 = .ok (.invokevirtual 27, 3) := dk_182 0 27 (dk_at dksJ9_init_2_1 0 rfl rfl)
theorem dJ9_init_2_27 : decode cJ9_init_2 27 = .ok (.pop, 1) := dk_87 (dk_at dksJ9_init_2_1 3 rfl rfl)
theorem dJ9_init_2_28 : decode cJ9_init_2 28 = .ok (.aload_n 0, 1) := dk_42 (dk_at dksJ9_init_2_1 4 rfl rfl)
theorem dJ9_init_2_29 : decode cJ9_init_2 29 = .ok (.aload_n 1, 1) := dk_43 (dk_at dksJ9_init_2_1 5 rfl rfl)
theorem dJ9_init_2_30 : decode cJ9_init_2 30 = .ok (.putfield 31, 3) := dk_181 0 31 (dk_at dksJ9_init_2_1 6 rfl rfl)
theorem dJ9_init_2_33 : decode cJ9_init_2 33 = .ok (.return_, 1) := dk_177 (dk_at dksJ9_init_2_1 9 rfl rfl)
theorem q120 : (Jvm.Cond.initialized "java/lang/Throwable") ∈ lw_all := lw_g (lw_at lw_m1 25 rfl) rfl
theorem q825 : (Jvm.Cond.declares ({ cls := "java/lang/Throwable", name := "<init>", desc := "()V" } : Jvm.MethodName)) ∈ lw_tbl := lw_at lw_m4 10 rfl
theorem q826 : (Jvm.Cond.declares ({ cls := "java/lang/Throwable", name := "<init>", desc := "(Ljava/lang/String;)V" } : Jvm.MethodName)) ∈ lw_tbl := lw_at lw_m4 11 rfl
theorem q830 : (Jvm.Cond.lays "java/lang/Throwable" "java/lang/Throwable" "cause" "Ljava/lang/Throwable;") ∈ lw_all := lw_g (lw_at lw_m4 15 rfl) rfl
theorem q832 : (Jvm.Cond.lays "java/lang/Throwable" "java/lang/Throwable" "stackTrace" "[Ljava/lang/StackTraceElement;") ∈ lw_all := lw_g (lw_at lw_m4 17 rfl) rfl
theorem q834 : (Jvm.Cond.lays "java/lang/Throwable" "java/lang/Throwable" "suppressedExceptions" "Ljava/util/List;") ∈ lw_all := lw_g (lw_at lw_m4 19 rfl) rfl
theorem q836 : (Jvm.Cond.lays "java/lang/Throwable" "java/lang/Throwable" "detailMessage" "Ljava/lang/String;") ∈ lw_all := lw_g (lw_at lw_m4 21 rfl) rfl
theorem q838 : (Jvm.Cond.lays "java/lang/Throwable" "java/lang/Throwable" "backtrace" "Ljava/lang/Object;") ∈ lw_all := lw_g (lw_at lw_m4 23 rfl) rfl
theorem q839 : (Jvm.Cond.fieldLink "java/lang/Throwable" (198 : Nat) "java/lang/Throwable" "backtrace" "Ljava/lang/Object;") ∈ lw_all := lw_g (lw_at lw_m4 24 rfl) rfl
theorem q840 : (Jvm.Cond.superclass "java/lang/Throwable" "java/lang/Object") ∈ lw_all := lw_g (lw_at lw_m4 25 rfl) rfl
theorem q841 : (Jvm.Cond.instanceMethod ({ cls := "java/lang/Throwable", name := "<init>", desc := "()V" } : Jvm.MethodName)) ∈ lw_all := lw_g (lw_at lw_m4 26 rfl) rfl
theorem q842 : (Jvm.Cond.code ({ cls := "java/lang/Throwable", name := "<init>", desc := "()V" } : Jvm.MethodName) prog_40_method_1_code (1 : Nat) (Option.none : Option Jvm.ClassFile.FieldType)) ∈ lw_all := lw_g (lw_at lw_m4 27 rfl) rfl
theorem q843 : (Jvm.Cond.methodLink "java/lang/Throwable" (1 : Nat) ({ cls := "java/lang/Object", name := "<init>", desc := "()V" } : Jvm.MethodName)) ∈ lw_all := lw_g (lw_at lw_m4 28 rfl) rfl
theorem q844 : (Jvm.Cond.fieldLink "java/lang/Throwable" (13 : Nat) "java/lang/Throwable" "UNASSIGNED_STACK" "[Ljava/lang/StackTraceElement;") ∈ lw_all := lw_g (lw_at lw_m4 29 rfl) rfl
theorem q845 : (Jvm.Cond.laysStatic "java/lang/Throwable" "UNASSIGNED_STACK" "[Ljava/lang/StackTraceElement;") ∈ lw_tbl := lw_at lw_m4 30 rfl
theorem q846 : (Jvm.Cond.fieldLink "java/lang/Throwable" (20 : Nat) "java/lang/Throwable" "SUPPRESSED_SENTINEL" "Ljava/util/List;") ∈ lw_all := lw_g (lw_at lw_m4 31 rfl) rfl
theorem q847 : (Jvm.Cond.laysStatic "java/lang/Throwable" "SUPPRESSED_SENTINEL" "Ljava/util/List;") ∈ lw_tbl := lw_at lw_m4 32 rfl
theorem q848 : (Jvm.Cond.methodLink "java/lang/Throwable" (27 : Nat) ({ cls := "java/lang/Throwable", name := "fillInStackTrace", desc := "()Ljava/lang/Throwable;" } : Jvm.MethodName)) ∈ lw_all := lw_g (lw_at lw_m4 33 rfl) rfl
theorem q849 : (Jvm.Cond.instanceMethod ({ cls := "java/lang/Throwable", name := "fillInStackTrace", desc := "()Ljava/lang/Throwable;" } : Jvm.MethodName)) ∈ lw_all := lw_g (lw_at lw_m4 34 rfl) rfl
theorem q850 : (Jvm.Cond.sameMethod "java/lang/Throwable" "java/lang/Throwable" "fillInStackTrace" "()Ljava/lang/Throwable;") ∈ lw_all := lw_g (lw_at lw_m4 35 rfl) rfl
theorem q865 : (Jvm.Cond.declares ({ cls := "java/lang/Throwable", name := "fillInStackTrace", desc := "()Ljava/lang/Throwable;" } : Jvm.MethodName)) ∈ lw_tbl := lw_at lw_m4 50 rfl
theorem q869 : (Jvm.Cond.codeSync ({ cls := "java/lang/Throwable", name := "fillInStackTrace", desc := "()Ljava/lang/Throwable;" } : Jvm.MethodName) prog_40_method_18_code (1 : Nat) (Option.some (Jvm.ClassFile.FieldType.object "java/lang/Throwable"))) ∈ lw_all := lw_g (lw_at lw_m4 54 rfl) rfl
theorem q870 : (Jvm.Cond.methodLink "java/lang/Throwable" (202 : Nat) ({ cls := "java/lang/Throwable", name := "fillInStackTrace", desc := "(I)Ljava/lang/Throwable;" } : Jvm.MethodName)) ∈ lw_all := lw_g (lw_at lw_m4 55 rfl) rfl
theorem q871 : (Jvm.Cond.privateMethod ({ cls := "java/lang/Throwable", name := "fillInStackTrace", desc := "(I)Ljava/lang/Throwable;" } : Jvm.MethodName)) ∈ lw_tbl := lw_at lw_m4 56 rfl
theorem q872 : (Jvm.Cond.instanceMethod ({ cls := "java/lang/Throwable", name := "fillInStackTrace", desc := "(I)Ljava/lang/Throwable;" } : Jvm.MethodName)) ∈ lw_all := lw_g (lw_at lw_m4 57 rfl) rfl
theorem q873 : (Jvm.Cond.instantiable "java/lang/Throwable" (6 : Nat)) ∈ lw_all := lw_g (lw_at lw_m4 58 rfl) rfl
theorem q874 : (Jvm.Cond.native ({ cls := "java/lang/Throwable", name := "fillInStackTrace", desc := "(I)Ljava/lang/Throwable;" } : Jvm.MethodName)) ∈ lw_all := lw_g (lw_at lw_m4 59 rfl) rfl
theorem q887 : (Jvm.Cond.fieldLink "java/lang/Throwable" (198 : Nat) "java/lang/Throwable" "backtrace" "Ljava/lang/Object;") ∈ lw_all := lw_g (lw_at lw_m4 72 rfl) rfl
theorem q888 : (Jvm.Cond.fieldLink "java/lang/Throwable" (31 : Nat) "java/lang/Throwable" "detailMessage" "Ljava/lang/String;") ∈ lw_all := lw_g (lw_at lw_m4 73 rfl) rfl
theorem q889 : (Jvm.Cond.fieldLink "java/lang/Throwable" (7 : Nat) "java/lang/Throwable" "cause" "Ljava/lang/Throwable;") ∈ lw_all := lw_g (lw_at lw_m4 74 rfl) rfl
theorem q890 : (Jvm.Cond.fieldLink "java/lang/Throwable" (17 : Nat) "java/lang/Throwable" "stackTrace" "[Ljava/lang/StackTraceElement;") ∈ lw_all := lw_g (lw_at lw_m4 75 rfl) rfl
theorem q891 : (Jvm.Cond.fieldLink "java/lang/Throwable" (24 : Nat) "java/lang/Throwable" "suppressedExceptions" "Ljava/util/List;") ∈ lw_all := lw_g (lw_at lw_m4 76 rfl) rfl
theorem q894 : (Jvm.Cond.soleField "java/lang/Throwable" "backtrace") ∈ lw_all := lw_g (lw_at lw_m4 79 rfl) rfl
theorem q895 : (Jvm.Cond.soleField "java/lang/Throwable" "detailMessage") ∈ lw_all := lw_g (lw_at lw_m4 80 rfl) rfl
theorem q896 : (Jvm.Cond.soleField "java/lang/Throwable" "cause") ∈ lw_all := lw_g (lw_at lw_m4 81 rfl) rfl
theorem q897 : (Jvm.Cond.soleField "java/lang/Throwable" "stackTrace") ∈ lw_all := lw_g (lw_at lw_m4 82 rfl) rfl
theorem q899 : (Jvm.Cond.soleField "java/lang/Throwable" "depth") ∈ lw_all := lw_g (lw_at lw_m4 84 rfl) rfl
theorem q900 : (Jvm.Cond.soleField "java/lang/Throwable" "suppressedExceptions") ∈ lw_all := lw_g (lw_at lw_m4 85 rfl) rfl
theorem q1255 : (Jvm.Cond.instanceMethod ({ cls := "java/lang/Throwable", name := "<init>", desc := "(Ljava/lang/String;)V" } : Jvm.MethodName)) ∈ lw_all := lw_g (lw_at lw_m5 200 rfl) rfl
theorem q1256 : (Jvm.Cond.code ({ cls := "java/lang/Throwable", name := "<init>", desc := "(Ljava/lang/String;)V" } : Jvm.MethodName) prog_40_method_2_code (2 : Nat) (Option.none : Option Jvm.ClassFile.FieldType)) ∈ lw_all := lw_g (lw_at lw_m5 201 rfl) rfl
theorem q2159 : (Jvm.Cond.sameMethod "java/lang/Throwable" "java/lang/Throwable" "fillInStackTrace" "(I)Ljava/lang/Throwable;") ∈ lw_all := lw_g (lw_at lw_m9 144 rfl) rfl
theorem q2200 : (Jvm.Cond.castable "java/lang/Throwable" "java/lang/Object") ∈ lw_tbl := lw_at lw_m9 185 rfl
theorem in_J9 : ∀ w ∈ wsJ90, w ∈ lw_all := lw_in wsJ90 [830, 832, 834, 836, 838] (by decide +kernel) (by decide +kernel)

/-! the law's own entry -/
set_option maxRecDepth 100000
abbrev cL_law : ByteArray := code
def dkwL_law_57 : List UInt8 := [132, 3, 6, 167, 250, 45, 4, 172]
abbrev dktL_law_57 : List UInt8 := dkwL_law_57 ++ []
def dkwL_law_56 : List UInt8 := [46, 42, 29, 6, 96, 46, 42, 29, 7, 96, 46, 42, 29, 8, 96, 46, 182, 0, 201, 159, 0, 5, 3, 172]
abbrev dktL_law_56 : List UInt8 := dkwL_law_56 ++ dktL_law_57
def dkwL_law_55 : List UInt8 := [46, 42, 29, 7, 96, 46, 42, 29, 8, 96, 46, 182, 0, 198, 44, 42, 29, 4, 96, 46, 42, 29, 5, 96]
abbrev dktL_law_55 : List UInt8 := dkwL_law_55 ++ dktL_law_56
def dkwL_law_54 : List UInt8 := [182, 0, 197, 148, 153, 0, 68, 3, 172, 43, 42, 29, 4, 96, 46, 42, 29, 5, 96, 46, 42, 29, 6, 96]
abbrev dktL_law_54 : List UInt8 := dkwL_law_54 ++ dktL_law_55
def dkwL_law_53 : List UInt8 := [42, 29, 4, 96, 46, 42, 29, 5, 96, 46, 182, 0, 194, 44, 42, 29, 4, 96, 46, 42, 29, 5, 96, 46]
abbrev dktL_law_53 : List UInt8 := dkwL_law_53 ++ dktL_law_54
def dkwL_law_52 : List UInt8 := [133, 16, 32, 121, 42, 29, 7, 96, 46, 133, 20, 0, 187, 127, 129, 182, 0, 193, 159, 0, 102, 3, 172, 43]
abbrev dktL_law_52 : List UInt8 := dkwL_law_52 ++ dktL_law_53
def dkwL_law_51 : List UInt8 := [20, 0, 187, 127, 129, 182, 0, 189, 44, 42, 29, 4, 96, 46, 42, 29, 5, 96, 46, 42, 29, 6, 96, 46]
abbrev dktL_law_51 : List UInt8 := dkwL_law_51 ++ dktL_law_52
def dkwL_law_50 : List UInt8 := [96, 46, 42, 29, 5, 96, 46, 42, 29, 6, 96, 46, 133, 16, 32, 121, 42, 29, 7, 96, 46, 133]
abbrev dktL_law_50 : List UInt8 := dkwL_law_50 ++ dktL_law_51
def dkwL_law_49 : List UInt8 := [96, 46, 42, 29, 5, 96, 46, 42, 29, 6, 96, 46, 182, 0, 186, 159, 0, 175, 3, 172, 43, 42, 29, 4]
abbrev dktL_law_49 : List UInt8 := dkwL_law_49 ++ dktL_law_50
def dkwL_law_48 : List UInt8 := [172, 43, 42, 29, 4, 96, 46, 42, 29, 5, 96, 46, 42, 29, 6, 96, 46, 182, 0, 183, 44, 42, 29, 4]
abbrev dktL_law_48 : List UInt8 := dkwL_law_48 ++ dktL_law_49
def dkwL_law_47 : List UInt8 := [3, 172, 43, 42, 29, 4, 96, 46, 182, 0, 179, 44, 42, 29, 4, 96, 46, 182, 0, 182, 159, 0, 218, 3]
abbrev dktL_law_47 : List UInt8 := dkwL_law_47 ++ dktL_law_48
def dkwL_law_46 : List UInt8 := [29, 5, 96, 46, 182, 0, 175, 44, 42, 29, 4, 96, 46, 42, 29, 5, 96, 46, 182, 0, 178, 159, 0, 241]
abbrev dktL_law_46 : List UInt8 := dkwL_law_46 ++ dktL_law_47
def dkwL_law_45 : List UInt8 := [182, 0, 171, 44, 42, 29, 4, 96, 46, 182, 0, 174, 159, 1, 18, 3, 172, 43, 42, 29, 4, 96, 46, 42]
abbrev dktL_law_45 : List UInt8 := dkwL_law_45 ++ dktL_law_46
def dkwL_law_44 : List UInt8 := [5, 96, 46, 42, 29, 6, 96, 46, 182, 0, 170, 159, 1, 41, 3, 172, 43, 42, 29, 4, 96, 46]
abbrev dktL_law_44 : List UInt8 := dkwL_law_44 ++ dktL_law_45
def dkwL_law_43 : List UInt8 := [4, 96, 46, 42, 29, 5, 96, 46, 42, 29, 6, 96, 46, 182, 0, 167, 44, 42, 29, 4, 96, 46, 42, 29]
abbrev dktL_law_43 : List UInt8 := dkwL_law_43 ++ dktL_law_44
def dkwL_law_42 : List UInt8 := [182, 0, 162, 159, 1, 97, 3, 172, 43, 182, 0, 163, 44, 182, 0, 166, 159, 1, 84, 3, 172, 43, 42, 29]
abbrev dktL_law_42 : List UInt8 := dkwL_law_42 ++ dktL_law_43
def dkwL_law_41 : List UInt8 := [29, 4, 96, 46, 42, 29, 5, 96, 46, 182, 0, 158, 159, 1, 110, 3, 172, 43, 182, 0, 159, 44]
abbrev dktL_law_41 : List UInt8 := dkwL_law_41 ++ dktL_law_42
def dkwL_law_40 : List UInt8 := [182, 0, 154, 159, 1, 143, 3, 172, 43, 42, 29, 4, 96, 46, 42, 29, 5, 96, 46, 182, 0, 155, 44, 42]
abbrev dktL_law_40 : List UInt8 := dkwL_law_40 ++ dktL_law_41
def dkwL_law_39 : List UInt8 := [44, 42, 29, 4, 96, 46, 42, 29, 5, 96, 46, 182, 0, 150, 159, 1, 156, 3, 172, 43, 182, 0, 151, 44]
abbrev dktL_law_39 : List UInt8 := dkwL_law_39 ++ dktL_law_40
def dkwL_law_38 : List UInt8 := [46, 182, 0, 146, 148, 153, 1, 189, 3, 172, 43, 42, 29, 4, 96, 46, 42, 29, 5, 96, 46, 182, 0, 147]
abbrev dktL_law_38 : List UInt8 := dkwL_law_38 ++ dktL_law_39
def dkwL_law_37 : List UInt8 := [43, 42, 29, 4, 96, 46, 42, 29, 5, 96, 46, 182, 0, 143, 44, 42, 29, 4, 96, 46, 42, 29, 5, 96]
abbrev dktL_law_37 : List UInt8 := dkwL_law_37 ++ dktL_law_38
def dkwL_law_36 : List UInt8 := [46, 182, 0, 138, 44, 42, 29, 4, 96, 46, 42, 29, 5, 96, 46, 182, 0, 142, 148, 153, 1, 223, 3, 172]
abbrev dktL_law_36 : List UInt8 := dkwL_law_36 ++ dktL_law_37
def dkwL_law_35 : List UInt8 := [172, 43, 182, 0, 134, 44, 182, 0, 137, 159, 2, 1, 3, 172, 43, 42, 29, 4, 96, 46, 42, 29, 5, 96]
abbrev dktL_law_35 : List UInt8 := dkwL_law_35 ++ dktL_law_36
def dkwL_law_34 : List UInt8 := [3, 172, 43, 42, 29, 4, 96, 46, 182, 0, 130, 44, 42, 29, 4, 96, 46, 182, 0, 133, 159, 2, 14, 3]
abbrev dktL_law_34 : List UInt8 := dkwL_law_34 ++ dktL_law_35
def dkwL_law_33 : List UInt8 := [29, 5, 96, 46, 182, 0, 126, 44, 42, 29, 4, 96, 46, 42, 29, 5, 96, 46, 182, 0, 129, 159, 2, 37]
abbrev dktL_law_33 : List UInt8 := dkwL_law_33 ++ dktL_law_34
def dkwL_law_32 : List UInt8 := [182, 0, 122, 44, 42, 29, 4, 96, 46, 182, 0, 125, 159, 2, 70, 3, 172, 43, 42, 29, 4, 96, 46, 42]
abbrev dktL_law_32 : List UInt8 := dkwL_law_32 ++ dktL_law_33
def dkwL_law_31 : List UInt8 := [29, 5, 96, 46, 42, 29, 6, 96, 46, 182, 0, 121, 159, 2, 93, 3, 172, 43, 42, 29, 4, 96, 46]
abbrev dktL_law_31 : List UInt8 := dkwL_law_31 ++ dktL_law_32
def dkwL_law_30 : List UInt8 := [29, 4, 96, 46, 42, 29, 5, 96, 46, 42, 29, 6, 96, 46, 182, 0, 118, 44, 42, 29, 4, 96, 46, 42]
abbrev dktL_law_30 : List UInt8 := dkwL_law_30 ++ dktL_law_31
def dkwL_law_29 : List UInt8 := [44, 182, 0, 113, 159, 2, 149, 3, 172, 43, 182, 0, 114, 44, 182, 0, 117, 159, 2, 136, 3, 172, 43, 42]
abbrev dktL_law_29 : List UInt8 := dkwL_law_29 ++ dktL_law_30
def dkwL_law_28 : List UInt8 := [4, 96, 46, 182, 0, 106, 44, 42, 29, 4, 96, 46, 182, 0, 109, 159, 2, 162, 3, 172, 43, 182, 0, 110]
abbrev dktL_law_28 : List UInt8 := dkwL_law_28 ++ dktL_law_29
def dkwL_law_27 : List UInt8 := [182, 0, 101, 159, 2, 198, 3, 172, 43, 182, 0, 102, 44, 182, 0, 105, 159, 2, 185, 3, 172, 43, 42, 29]
abbrev dktL_law_27 : List UInt8 := dkwL_law_27 ++ dktL_law_28
def dkwL_law_26 : List UInt8 := [182, 0, 94, 44, 42, 29, 4, 96, 46, 182, 0, 97, 159, 2, 211, 3, 172, 43, 182, 0, 98, 44]
abbrev dktL_law_26 : List UInt8 := dkwL_law_26 ++ dktL_law_27
def dkwL_law_25 : List UInt8 := [182, 0, 90, 44, 42, 29, 4, 96, 46, 182, 0, 93, 159, 2, 234, 3, 172, 43, 42, 29, 4, 96, 46]
abbrev dktL_law_25 : List UInt8 := dkwL_law_25 ++ dktL_law_26
def dkwL_law_24 : List UInt8 := [29, 4, 96, 46, 42, 29, 5, 96, 46, 182, 0, 89, 159, 3, 1, 3, 172, 43, 42, 29, 4, 96, 46]
abbrev dktL_law_24 : List UInt8 := dkwL_law_24 ++ dktL_law_25
def dkwL_law_23 : List UInt8 := [182, 0, 85, 159, 3, 34, 3, 172, 43, 42, 29, 4, 96, 46, 42, 29, 5, 96, 46, 182, 0, 86, 44, 42]
abbrev dktL_law_23 : List UInt8 := dkwL_law_23 ++ dktL_law_24
def dkwL_law_22 : List UInt8 := [182, 0, 81, 159, 3, 57, 3, 172, 43, 42, 29, 4, 96, 46, 182, 0, 82, 44, 42, 29, 4, 96, 46]
abbrev dktL_law_22 : List UInt8 := dkwL_law_22 ++ dktL_law_23
def dkwL_law_21 : List UInt8 := [182, 0, 74, 44, 42, 29, 4, 96, 46, 182, 0, 77, 159, 3, 70, 3, 172, 43, 182, 0, 78, 44]
abbrev dktL_law_21 : List UInt8 := dkwL_law_21 ++ dktL_law_22
def dkwL_law_20 : List UInt8 := [29, 4, 96, 46, 42, 29, 5, 96, 46, 182, 0, 73, 159, 3, 93, 3, 172, 43, 42, 29, 4, 96, 46]
abbrev dktL_law_20 : List UInt8 := dkwL_law_20 ++ dktL_law_21
def dkwL_law_19 : List UInt8 := [182, 0, 69, 159, 3, 126, 3, 172, 43, 42, 29, 4, 96, 46, 42, 29, 5, 96, 46, 182, 0, 70, 44, 42]
abbrev dktL_law_19 : List UInt8 := dkwL_law_19 ++ dktL_law_20
def dkwL_law_18 : List UInt8 := [44, 182, 0, 65, 159, 3, 149, 3, 172, 43, 42, 29, 4, 96, 46, 182, 0, 66, 44, 42, 29, 4, 96, 46]
abbrev dktL_law_18 : List UInt8 := dkwL_law_18 ++ dktL_law_19
def dkwL_law_17 : List UInt8 := [4, 96, 46, 182, 0, 58, 44, 42, 29, 4, 96, 46, 182, 0, 61, 159, 3, 162, 3, 172, 43, 182, 0, 62]
abbrev dktL_law_17 : List UInt8 := dkwL_law_17 ++ dktL_law_18
def dkwL_law_16 : List UInt8 := [182, 0, 52, 159, 3, 198, 3, 172, 43, 182, 0, 53, 44, 182, 0, 57, 159, 3, 185, 3, 172, 43, 42, 29]
abbrev dktL_law_16 : List UInt8 := dkwL_law_16 ++ dktL_law_17
def dkwL_law_15 : List UInt8 := [182, 0, 48, 159, 3, 221, 3, 172, 43, 42, 29, 4, 96, 46, 182, 0, 49, 44, 42, 29, 4, 96, 46]
abbrev dktL_law_15 : List UInt8 := dkwL_law_15 ++ dktL_law_16
def dkwL_law_14 : List UInt8 := [42, 29, 4, 96, 46, 42, 29, 5, 96, 46, 182, 0, 45, 44, 42, 29, 4, 96, 46, 42, 29, 5, 96, 46]
abbrev dktL_law_14 : List UInt8 := dkwL_law_14 ++ dktL_law_15
def dkwL_law_13 : List UInt8 := [46, 182, 0, 41, 44, 42, 29, 4, 96, 46, 42, 29, 5, 96, 46, 182, 0, 44, 159, 3, 254, 3, 172, 43]
abbrev dktL_law_13 : List UInt8 := dkwL_law_13 ++ dktL_law_14
def dkwL_law_12 : List UInt8 := [46, 42, 29, 5, 96, 46, 182, 0, 40, 159, 4, 31, 3, 172, 43, 42, 29, 4, 96, 46, 42, 29, 5, 96]
abbrev dktL_law_12 : List UInt8 := dkwL_law_12 ++ dktL_law_13
def dkwL_law_11 : List UInt8 := [159, 4, 64, 3, 172, 43, 42, 29, 4, 96, 46, 42, 29, 5, 96, 46, 182, 0, 37, 44, 42, 29, 4, 96]
abbrev dktL_law_11 : List UInt8 := dkwL_law_11 ++ dktL_law_12
def dkwL_law_10 : List UInt8 := [182, 0, 32, 44, 42, 29, 4, 96, 46, 42, 29, 5, 96, 46, 42, 29, 6, 96, 46, 182, 0, 36]
abbrev dktL_law_10 : List UInt8 := dkwL_law_10 ++ dktL_law_11
def dkwL_law_9 : List UInt8 := [182, 0, 31, 159, 4, 107, 3, 172, 43, 42, 29, 4, 96, 46, 42, 29, 5, 96, 46, 42, 29, 6, 96, 46]
abbrev dktL_law_9 : List UInt8 := dkwL_law_9 ++ dktL_law_10
def dkwL_law_8 : List UInt8 := [42, 29, 4, 96, 46, 42, 29, 5, 96, 46, 182, 0, 28, 44, 42, 29, 4, 96, 46, 42, 29, 5, 96, 46]
abbrev dktL_law_8 : List UInt8 := dkwL_law_8 ++ dktL_law_9
def dkwL_law_7 : List UInt8 := [46, 182, 0, 23, 44, 42, 29, 4, 96, 46, 42, 29, 5, 96, 46, 182, 0, 27, 159, 4, 140, 3, 172, 43]
abbrev dktL_law_7 : List UInt8 := dkwL_law_7 ++ dktL_law_8
def dkwL_law_6 : List UInt8 := [46, 42, 29, 8, 96, 46, 182, 0, 22, 159, 4, 173, 3, 172, 43, 42, 29, 4, 96, 46, 42, 29, 5, 96]
abbrev dktL_law_6 : List UInt8 := dkwL_law_6 ++ dktL_law_7
def dkwL_law_5 : List UInt8 := [46, 182, 0, 18, 44, 42, 29, 4, 96, 46, 42, 29, 5, 96, 46, 42, 29, 6, 96, 46, 42, 29, 7, 96]
abbrev dktL_law_5 : List UInt8 := dkwL_law_5 ++ dktL_law_6
def dkwL_law_4 : List UInt8 := [42, 29, 4, 96, 46, 42, 29, 5, 96, 46, 42, 29, 6, 96, 46, 42, 29, 7, 96, 46, 42, 29, 8, 96]
abbrev dktL_law_4 : List UInt8 := dkwL_law_4 ++ dktL_law_5
def dkwL_law_3 : List UInt8 := [43, 42, 29, 4, 96, 46, 182, 0, 13, 44, 42, 29, 4, 96, 46, 182, 0, 17, 159, 4, 236, 3, 172, 43]
abbrev dktL_law_3 : List UInt8 := dkwL_law_3 ++ dktL_law_4
def dkwL_law_2 : List UInt8 := [170, 0, 0, 0, 0, 5, 193, 0, 0, 0, 0, 0, 0, 0, 44, 0, 0, 0, 195, 0, 0, 0, 218, 0, 0, 1, 25, 0, 0, 1, 58, 0, 0, 1, 91, 0, 0, 1, 134, 0, 0, 1, 167, 0, 0, 1, 200, 0, 0, 1, 233, 0, 0, 2, 0, 0, 0, 2, 13, 0, 0, 2, 36, 0, 0, 2, 49, 0, 0, 2, 72, 0, 0, 2, 105, 0, 0, 2, 128, 0, 0, 2, 141, 0, 0, 2, 164, 0, 0, 2, 197, 0, 0, 2, 220, 0, 0, 2, 243, 0, 0, 3, 0, 0, 0, 3, 13, 0, 0, 3, 36, 0, 0, 3, 49, 0, 0, 3, 62, 0, 0, 3, 105, 0, 0, 3, 128, 0, 0, 3, 161, 0, 0, 3, 184, 0, 0, 3, 197, 0, 0, 3, 231, 0, 0, 4, 9, 0, 0, 4, 42, 0, 0, 4, 55, 0, 0, 4, 88, 0, 0, 4, 101, 0, 0, 4, 114, 0, 0, 4, 157, 0, 0, 4, 180, 0, 0, 4, 213, 0, 0, 4, 236, 0, 0, 5, 23, 0, 0, 5, 96, 0, 0, 5, 130]
abbrev dktL_law_2 : List UInt8 := dkwL_law_2 ++ dktL_law_3
def dkwL_law_1 : List UInt8 := [163, 5, 208, 42, 29, 46, 16, 63, 126]
abbrev dktL_law_1 : List UInt8 := dkwL_law_1 ++ dktL_law_2
def dkwL_law_0 : List UInt8 := [187, 0, 7, 89, 183, 0, 9, 76, 187, 0, 10, 89, 183, 0, 12, 77, 3, 62, 29, 42, 190, 16, 6, 100]
abbrev dktL_law_0 : List UInt8 := dkwL_law_0 ++ dktL_law_1
theorem dksL_law_0 : cL_law.data.toList.drop 0 = dktL_law_0 := by decide +kernel
theorem dksL_law_1 : cL_law.data.toList.drop 24 = dktL_law_1 := dk_seg dksL_law_0 24 rfl rfl
theorem dksL_law_2 : cL_law.data.toList.drop 33 = dktL_law_2 := dk_seg dksL_law_1 9 rfl rfl
theorem dksL_law_3 : cL_law.data.toList.drop 228 = dktL_law_3 := dk_seg dksL_law_2 195 rfl rfl
theorem dksL_law_4 : cL_law.data.toList.drop 252 = dktL_law_4 := dk_seg dksL_law_3 24 rfl rfl
theorem dksL_law_5 : cL_law.data.toList.drop 276 = dktL_law_5 := dk_seg dksL_law_4 24 rfl rfl
theorem dksL_law_6 : cL_law.data.toList.drop 300 = dktL_law_6 := dk_seg dksL_law_5 24 rfl rfl
theorem dksL_law_7 : cL_law.data.toList.drop 324 = dktL_law_7 := dk_seg dksL_law_6 24 rfl rfl
theorem dksL_law_8 : cL_law.data.toList.drop 348 = dktL_law_8 := dk_seg dksL_law_7 24 rfl rfl
theorem dksL_law_9 : cL_law.data.toList.drop 372 = dktL_law_9 := dk_seg dksL_law_8 24 rfl rfl
theorem dksL_law_10 : cL_law.data.toList.drop 396 = dktL_law_10 := dk_seg dksL_law_9 24 rfl rfl
theorem dksL_law_11 : cL_law.data.toList.drop 418 = dktL_law_11 := dk_seg dksL_law_10 22 rfl rfl
theorem dksL_law_12 : cL_law.data.toList.drop 442 = dktL_law_12 := dk_seg dksL_law_11 24 rfl rfl
theorem dksL_law_13 : cL_law.data.toList.drop 466 = dktL_law_13 := dk_seg dksL_law_12 24 rfl rfl
theorem dksL_law_14 : cL_law.data.toList.drop 490 = dktL_law_14 := dk_seg dksL_law_13 24 rfl rfl
theorem dksL_law_15 : cL_law.data.toList.drop 514 = dktL_law_15 := dk_seg dksL_law_14 24 rfl rfl
theorem dksL_law_16 : cL_law.data.toList.drop 537 = dktL_law_16 := dk_seg dksL_law_15 23 rfl rfl
theorem dksL_law_17 : cL_law.data.toList.drop 561 = dktL_law_17 := dk_seg dksL_law_16 24 rfl rfl
theorem dksL_law_18 : cL_law.data.toList.drop 585 = dktL_law_18 := dk_seg dksL_law_17 24 rfl rfl
theorem dksL_law_19 : cL_law.data.toList.drop 609 = dktL_law_19 := dk_seg dksL_law_18 24 rfl rfl
theorem dksL_law_20 : cL_law.data.toList.drop 633 = dktL_law_20 := dk_seg dksL_law_19 24 rfl rfl
theorem dksL_law_21 : cL_law.data.toList.drop 656 = dktL_law_21 := dk_seg dksL_law_20 23 rfl rfl
theorem dksL_law_22 : cL_law.data.toList.drop 678 = dktL_law_22 := dk_seg dksL_law_21 22 rfl rfl
theorem dksL_law_23 : cL_law.data.toList.drop 701 = dktL_law_23 := dk_seg dksL_law_22 23 rfl rfl
theorem dksL_law_24 : cL_law.data.toList.drop 725 = dktL_law_24 := dk_seg dksL_law_23 24 rfl rfl
theorem dksL_law_25 : cL_law.data.toList.drop 748 = dktL_law_25 := dk_seg dksL_law_24 23 rfl rfl
theorem dksL_law_26 : cL_law.data.toList.drop 771 = dktL_law_26 := dk_seg dksL_law_25 23 rfl rfl
theorem dksL_law_27 : cL_law.data.toList.drop 793 = dktL_law_27 := dk_seg dksL_law_26 22 rfl rfl
theorem dksL_law_28 : cL_law.data.toList.drop 817 = dktL_law_28 := dk_seg dksL_law_27 24 rfl rfl
theorem dksL_law_29 : cL_law.data.toList.drop 841 = dktL_law_29 := dk_seg dksL_law_28 24 rfl rfl
theorem dksL_law_30 : cL_law.data.toList.drop 865 = dktL_law_30 := dk_seg dksL_law_29 24 rfl rfl
theorem dksL_law_31 : cL_law.data.toList.drop 889 = dktL_law_31 := dk_seg dksL_law_30 24 rfl rfl
theorem dksL_law_32 : cL_law.data.toList.drop 912 = dktL_law_32 := dk_seg dksL_law_31 23 rfl rfl
theorem dksL_law_33 : cL_law.data.toList.drop 936 = dktL_law_33 := dk_seg dksL_law_32 24 rfl rfl
theorem dksL_law_34 : cL_law.data.toList.drop 960 = dktL_law_34 := dk_seg dksL_law_33 24 rfl rfl
theorem dksL_law_35 : cL_law.data.toList.drop 984 = dktL_law_35 := dk_seg dksL_law_34 24 rfl rfl
theorem dksL_law_36 : cL_law.data.toList.drop 1008 = dktL_law_36 := dk_seg dksL_law_35 24 rfl rfl
theorem dksL_law_37 : cL_law.data.toList.drop 1032 = dktL_law_37 := dk_seg dksL_law_36 24 rfl rfl
theorem dksL_law_38 : cL_law.data.toList.drop 1056 = dktL_law_38 := dk_seg dksL_law_37 24 rfl rfl
theorem dksL_law_39 : cL_law.data.toList.drop 1080 = dktL_law_39 := dk_seg dksL_law_38 24 rfl rfl
theorem dksL_law_40 : cL_law.data.toList.drop 1104 = dktL_law_40 := dk_seg dksL_law_39 24 rfl rfl
theorem dksL_law_41 : cL_law.data.toList.drop 1128 = dktL_law_41 := dk_seg dksL_law_40 24 rfl rfl
theorem dksL_law_42 : cL_law.data.toList.drop 1150 = dktL_law_42 := dk_seg dksL_law_41 22 rfl rfl
theorem dksL_law_43 : cL_law.data.toList.drop 1174 = dktL_law_43 := dk_seg dksL_law_42 24 rfl rfl
theorem dksL_law_44 : cL_law.data.toList.drop 1198 = dktL_law_44 := dk_seg dksL_law_43 24 rfl rfl
theorem dksL_law_45 : cL_law.data.toList.drop 1220 = dktL_law_45 := dk_seg dksL_law_44 22 rfl rfl
theorem dksL_law_46 : cL_law.data.toList.drop 1244 = dktL_law_46 := dk_seg dksL_law_45 24 rfl rfl
theorem dksL_law_47 : cL_law.data.toList.drop 1268 = dktL_law_47 := dk_seg dksL_law_46 24 rfl rfl
theorem dksL_law_48 : cL_law.data.toList.drop 1292 = dktL_law_48 := dk_seg dksL_law_47 24 rfl rfl
theorem dksL_law_49 : cL_law.data.toList.drop 1316 = dktL_law_49 := dk_seg dksL_law_48 24 rfl rfl
theorem dksL_law_50 : cL_law.data.toList.drop 1340 = dktL_law_50 := dk_seg dksL_law_49 24 rfl rfl
theorem dksL_law_51 : cL_law.data.toList.drop 1362 = dktL_law_51 := dk_seg dksL_law_50 22 rfl rfl
theorem dksL_law_52 : cL_law.data.toList.drop 1386 = dktL_law_52 := dk_seg dksL_law_51 24 rfl rfl
theorem dksL_law_53 : cL_law.data.toList.drop 1410 = dktL_law_53 := dk_seg dksL_law_52 24 rfl rfl
theorem dksL_law_54 : cL_law.data.toList.drop 1434 = dktL_law_54 := dk_seg dksL_law_53 24 rfl rfl
theorem dksL_law_55 : cL_law.data.toList.drop 1458 = dktL_law_55 := dk_seg dksL_law_54 24 rfl rfl
theorem dksL_law_56 : cL_law.data.toList.drop 1482 = dktL_law_56 := dk_seg dksL_law_55 24 rfl rfl
theorem dksL_law_57 : cL_law.data.toList.drop 1506 = dktL_law_57 := dk_seg dksL_law_56 24 rfl rfl
theorem dL_law_0 : decode cL_law 0 = .ok (.new 7, 3) := dk_187 0 7 (dk_at dksL_law_0 0 rfl rfl)
theorem dL_law_3 : decode cL_law 3 = .ok (.dup, 1) := dk_89 (dk_at dksL_law_0 3 rfl rfl)
theorem dL_law_4 : decode cL_law 4 = .ok (.invokespecial 9, 3) := dk_183 0 9 (dk_at dksL_law_0 4 rfl rfl)
theorem dL_law_7 : decode cL_law 7 = .ok (.astore_n 1, 1) := dk_76 (dk_at dksL_law_0 7 rfl rfl)
theorem dL_law_8 : decode cL_law 8 = .ok (.new 10, 3) := dk_187 0 10 (dk_at dksL_law_0 8 rfl rfl)
theorem dL_law_11 : decode cL_law 11 = .ok (.dup, 1) := dk_89 (dk_at dksL_law_0 11 rfl rfl)
theorem dL_law_12 : decode cL_law 12 = .ok (.invokespecial 12, 3) := dk_183 0 12 (dk_at dksL_law_0 12 rfl rfl)
theorem dL_law_15 : decode cL_law 15 = .ok (.astore_n 2, 1) := dk_77 (dk_at dksL_law_0 15 rfl rfl)
theorem dL_law_16 : decode cL_law 16 = .ok (.iconst 0, 1) := dk_3 (dk_at dksL_law_0 16 rfl rfl)
theorem dL_law_17 : decode cL_law 17 = .ok (.istore_n 3, 1) := dk_62 (dk_at dksL_law_0 17 rfl rfl)
theorem dL_law_18 : decode cL_law 18 = .ok (.iload_n 3, 1) := dk_29 (dk_at dksL_law_0 18 rfl rfl)
theorem dL_law_19 : decode cL_law 19 = .ok (.aload_n 0, 1) := dk_42 (dk_at dksL_law_0 19 rfl rfl)
theorem dL_law_20 : decode cL_law 20 = .ok (.arraylength, 1) := dk_190 (dk_at dksL_law_0 20 rfl rfl)
theorem dL_law_21 : decode cL_law 21 = .ok (.bipush 6, 2) := dk_16 6 (dk_at dksL_law_0 21 rfl rfl)
theorem dL_law_23 : decode cL_law 23 = .ok (.isub, 1) := dk_100 (dk_at dksL_law_0 23 rfl rfl)
theorem dL_law_24 : decode cL_law 24 = .ok (.if_icmp .gt 1488, 3) := dk_163 5 208 (dk_at dksL_law_1 0 rfl rfl)
theorem dL_law_27 : decode cL_law 27 = .ok (.aload_n 0, 1) := dk_42 (dk_at dksL_law_1 3 rfl rfl)
theorem dL_law_28 : decode cL_law 28 = .ok (.iload_n 3, 1) := dk_29 (dk_at dksL_law_1 4 rfl rfl)
theorem dL_law_29 : decode cL_law 29 = .ok (.iaload, 1) := dk_46 (dk_at dksL_law_1 5 rfl rfl)
theorem dL_law_30 : decode cL_law 30 = .ok (.bipush 63, 2) := dk_16 63 (dk_at dksL_law_1 6 rfl rfl)
theorem dL_law_32 : decode cL_law 32 = .ok (.iand, 1) := dk_126 (dk_at dksL_law_1 8 rfl rfl)
theorem dL_law_33 : decode cL_law 33 = .ok (.tableswitch 1473 0 44 #[195, 218, 281, 314, 347, 390, 423, 456, 489, 512, 525, 548, 561, 584, 617, 640, 653, 676, 709, 732, 755, 768, 781, 804, 817, 830, 873, 896, 929, 952, 965, 999, 1033, 1066, 1079, 1112, 1125, 1138, 1181, 1204, 1237, 1260, 1303, 1376, 1410], 195) := by decide +kernel
theorem dL_law_228 : decode cL_law 228 = .ok (.aload_n 1, 1) := dk_43 (dk_at dksL_law_3 0 rfl rfl)
theorem dL_law_229 : decode cL_law 229 = .ok (.aload_n 0, 1) := dk_42 (dk_at dksL_law_3 1 rfl rfl)
theorem dL_law_230 : decode cL_law 230 = .ok (.iload_n 3, 1) := dk_29 (dk_at dksL_law_3 2 rfl rfl)
theorem dL_law_231 : decode cL_law 231 = .ok (.iconst 1, 1) := dk_4 (dk_at dksL_law_3 3 rfl rfl)
theorem dL_law_232 : decode cL_law 232 = .ok (.iadd, 1) := dk_96 (dk_at dksL_law_3 4 rfl rfl)
theorem dL_law_233 : decode cL_law 233 = .ok (.iaload, 1) := dk_46 (dk_at dksL_law_3 5 rfl rfl)
theorem dL_law_234 : decode cL_law 234 = .ok (.invokevirtual 13, 3) := dk_182 0 13 (dk_at dksL_law_3 6 rfl rfl)
theorem dL_law_237 : decode cL_law 237 = .ok (.aload_n 2, 1) := dk_44 (dk_at dksL_law_3 9 rfl rfl)
theorem dL_law_238 : decode cL_law 238 = .ok (.aload_n 0, 1) := dk_42 (dk_at dksL_law_3 10 rfl rfl)
theorem dL_law_239 : decode cL_law 239 = .ok (.iload_n 3, 1) := dk_29 (dk_at dksL_law_3 11 rfl rfl)
theorem dL_law_240 : decode cL_law 240 = .ok (.iconst 1, 1) := dk_4 (dk_at dksL_law_3 12 rfl rfl)
theorem dL_law_241 : decode cL_law 241 = .ok (.iadd, 1) := dk_96 (dk_at dksL_law_3 13 rfl rfl)
theorem dL_law_242 : decode cL_law 242 = .ok (.iaload, 1) := dk_46 (dk_at dksL_law_3 14 rfl rfl)
theorem dL_law_243 : decode cL_law 243 = .ok (.invokevirtual 17, 3) := dk_182 0 17 (dk_at dksL_law_3 15 rfl rfl)
theorem dL_law_246 : decode cL_law 246 = .ok (.if_icmp .eq 1260, 3) := dk_159 4 236 (dk_at dksL_law_3 18 rfl rfl)
theorem dL_law_249 : decode cL_law 249 = .ok (.iconst 0, 1) := dk_3 (dk_at dksL_law_3 21 rfl rfl)
theorem dL_law_250 : decode cL_law 250 = .ok (.ireturn, 1) := dk_172 (dk_at dksL_law_3 22 rfl rfl)
theorem dL_law_251 : decode cL_law 251 = .ok (.aload_n 1, 1) := dk_43 (dk_at dksL_law_3 23 rfl rfl)
theorem dL_law_252 : decode cL_law 252 = .ok (.aload_n 0, 1) := dk_42 (dk_at dksL_law_4 0 rfl rfl)
theorem dL_law_253 : decode cL_law 253 = .ok (.iload_n 3, 1) := dk_29 (dk_at dksL_law_4 1 rfl rfl)
theorem dL_law_254 : decode cL_law 254 = .ok (.iconst 1, 1) := dk_4 (dk_at dksL_law_4 2 rfl rfl)
theorem dL_law_255 : decode cL_law 255 = .ok (.iadd, 1) := dk_96 (dk_at dksL_law_4 3 rfl rfl)
theorem dL_law_256 : decode cL_law 256 = .ok (.iaload, 1) := dk_46 (dk_at dksL_law_4 4 rfl rfl)
theorem dL_law_257 : decode cL_law 257 = .ok (.aload_n 0, 1) := dk_42 (dk_at dksL_law_4 5 rfl rfl)
theorem dL_law_258 : decode cL_law 258 = .ok (.iload_n 3, 1) := dk_29 (dk_at dksL_law_4 6 rfl rfl)
theorem dL_law_259 : decode cL_law 259 = .ok (.iconst 2, 1) := dk_5 (dk_at dksL_law_4 7 rfl rfl)
theorem dL_law_260 : decode cL_law 260 = .ok (.iadd, 1) := dk_96 (dk_at dksL_law_4 8 rfl rfl)
theorem dL_law_261 : decode cL_law 261 = .ok (.iaload, 1) := dk_46 (dk_at dksL_law_4 9 rfl rfl)
theorem dL_law_262 : decode cL_law 262 = .ok (.aload_n 0, 1) := dk_42 (dk_at dksL_law_4 10 rfl rfl)
theorem dL_law_263 : decode cL_law 263 = .ok (.iload_n 3, 1) := dk_29 (dk_at dksL_law_4 11 rfl rfl)
theorem dL_law_264 : decode cL_law 264 = .ok (.iconst 3, 1) := dk_6 (dk_at dksL_law_4 12 rfl rfl)
theorem dL_law_265 : decode cL_law 265 = .ok (.iadd, 1) := dk_96 (dk_at dksL_law_4 13 rfl rfl)
theorem dL_law_266 : decode cL_law 266 = .ok (.iaload, 1) := dk_46 (dk_at dksL_law_4 14 rfl rfl)
theorem dL_law_267 : decode cL_law 267 = .ok (.aload_n 0, 1) := dk_42 (dk_at dksL_law_4 15 rfl rfl)
theorem dL_law_268 : decode cL_law 268 = .ok (.iload_n 3, 1) := dk_29 (dk_at dksL_law_4 16 rfl rfl)
theorem dL_law_269 : decode cL_law 269 = .ok (.iconst 4, 1) := dk_7 (dk_at dksL_law_4 17 rfl rfl)
theorem dL_law_270 : decode cL_law 270 = .ok (.iadd, 1) := dk_96 (dk_at dksL_law_4 18 rfl rfl)
theorem dL_law_271 : decode cL_law 271 = .ok (.iaload, 1) := dk_46 (dk_at dksL_law_4 19 rfl rfl)
theorem dL_law_272 : decode cL_law 272 = .ok (.aload_n 0, 1) := dk_42 (dk_at dksL_law_4 20 rfl rfl)
theorem dL_law_273 : decode cL_law 273 = .ok (.iload_n 3, 1) := dk_29 (dk_at dksL_law_4 21 rfl rfl)
theorem dL_law_274 : decode cL_law 274 = .ok (.iconst 5, 1) := dk_8 (dk_at dksL_law_4 22 rfl rfl)
theorem dL_law_275 : decode cL_law 275 = .ok (.iadd, 1) := dk_96 (dk_at dksL_law_4 23 rfl rfl)
theorem dL_law_276 : decode cL_law 276 = .ok (.iaload, 1) := dk_46 (dk_at dksL_law_5 0 rfl rfl)
theorem dL_law_277 : decode cL_law 277 = .ok (.invokevirtual 18, 3) := dk_182 0 18 (dk_at dksL_law_5 1 rfl rfl)
theorem dL_law_280 : decode cL_law 280 = .ok (.aload_n 2, 1) := dk_44 (dk_at dksL_law_5 4 rfl rfl)
theorem dL_law_281 : decode cL_law 281 = .ok (.aload_n 0, 1) := dk_42 (dk_at dksL_law_5 5 rfl rfl)
theorem dL_law_282 : decode cL_law 282 = .ok (.iload_n 3, 1) := dk_29 (dk_at dksL_law_5 6 rfl rfl)
theorem dL_law_283 : decode cL_law 283 = .ok (.iconst 1, 1) := dk_4 (dk_at dksL_law_5 7 rfl rfl)
theorem dL_law_284 : decode cL_law 284 = .ok (.iadd, 1) := dk_96 (dk_at dksL_law_5 8 rfl rfl)
theorem dL_law_285 : decode cL_law 285 = .ok (.iaload, 1) := dk_46 (dk_at dksL_law_5 9 rfl rfl)
theorem dL_law_286 : decode cL_law 286 = .ok (.aload_n 0, 1) := dk_42 (dk_at dksL_law_5 10 rfl rfl)
theorem dL_law_287 : decode cL_law 287 = .ok (.iload_n 3, 1) := dk_29 (dk_at dksL_law_5 11 rfl rfl)
theorem dL_law_288 : decode cL_law 288 = .ok (.iconst 2, 1) := dk_5 (dk_at dksL_law_5 12 rfl rfl)
theorem dL_law_289 : decode cL_law 289 = .ok (.iadd, 1) := dk_96 (dk_at dksL_law_5 13 rfl rfl)
theorem dL_law_290 : decode cL_law 290 = .ok (.iaload, 1) := dk_46 (dk_at dksL_law_5 14 rfl rfl)
theorem dL_law_291 : decode cL_law 291 = .ok (.aload_n 0, 1) := dk_42 (dk_at dksL_law_5 15 rfl rfl)
theorem dL_law_292 : decode cL_law 292 = .ok (.iload_n 3, 1) := dk_29 (dk_at dksL_law_5 16 rfl rfl)
theorem dL_law_293 : decode cL_law 293 = .ok (.iconst 3, 1) := dk_6 (dk_at dksL_law_5 17 rfl rfl)
theorem dL_law_294 : decode cL_law 294 = .ok (.iadd, 1) := dk_96 (dk_at dksL_law_5 18 rfl rfl)
theorem dL_law_295 : decode cL_law 295 = .ok (.iaload, 1) := dk_46 (dk_at dksL_law_5 19 rfl rfl)
theorem dL_law_296 : decode cL_law 296 = .ok (.aload_n 0, 1) := dk_42 (dk_at dksL_law_5 20 rfl rfl)
theorem dL_law_297 : decode cL_law 297 = .ok (.iload_n 3, 1) := dk_29 (dk_at dksL_law_5 21 rfl rfl)
theorem dL_law_298 : decode cL_law 298 = .ok (.iconst 4, 1) := dk_7 (dk_at dksL_law_5 22 rfl rfl)
theorem dL_law_299 : decode cL_law 299 = .ok (.iadd, 1) := dk_96 (dk_at dksL_law_5 23 rfl rfl)
theorem dL_law_300 : decode cL_law 300 = .ok (.iaload, 1) := dk_46 (dk_at dksL_law_6 0 rfl rfl)
theorem dL_law_301 : decode cL_law 301 = .ok (.aload_n 0, 1) := dk_42 (dk_at dksL_law_6 1 rfl rfl)
theorem dL_law_302 : decode cL_law 302 = .ok (.iload_n 3, 1) := dk_29 (dk_at dksL_law_6 2 rfl rfl)
theorem dL_law_303 : decode cL_law 303 = .ok (.iconst 5, 1) := dk_8 (dk_at dksL_law_6 3 rfl rfl)
theorem dL_law_304 : decode cL_law 304 = .ok (.iadd, 1) := dk_96 (dk_at dksL_law_6 4 rfl rfl)
theorem dL_law_305 : decode cL_law 305 = .ok (.iaload, 1) := dk_46 (dk_at dksL_law_6 5 rfl rfl)
theorem dL_law_306 : decode cL_law 306 = .ok (.invokevirtual 22, 3) := dk_182 0 22 (dk_at dksL_law_6 6 rfl rfl)
theorem dL_law_309 : decode cL_law 309 = .ok (.if_icmp .eq 1197, 3) := dk_159 4 173 (dk_at dksL_law_6 9 rfl rfl)
theorem dL_law_312 : decode cL_law 312 = .ok (.iconst 0, 1) := dk_3 (dk_at dksL_law_6 12 rfl rfl)
theorem dL_law_313 : decode cL_law 313 = .ok (.ireturn, 1) := dk_172 (dk_at dksL_law_6 13 rfl rfl)
theorem dL_law_314 : decode cL_law 314 = .ok (.aload_n 1, 1) := dk_43 (dk_at dksL_law_6 14 rfl rfl)
theorem dL_law_315 : decode cL_law 315 = .ok (.aload_n 0, 1) := dk_42 (dk_at dksL_law_6 15 rfl rfl)
theorem dL_law_316 : decode cL_law 316 = .ok (.iload_n 3, 1) := dk_29 (dk_at dksL_law_6 16 rfl rfl)
theorem dL_law_317 : decode cL_law 317 = .ok (.iconst 1, 1) := dk_4 (dk_at dksL_law_6 17 rfl rfl)
theorem dL_law_318 : decode cL_law 318 = .ok (.iadd, 1) := dk_96 (dk_at dksL_law_6 18 rfl rfl)
theorem dL_law_319 : decode cL_law 319 = .ok (.iaload, 1) := dk_46 (dk_at dksL_law_6 19 rfl rfl)
theorem dL_law_320 : decode cL_law 320 = .ok (.aload_n 0, 1) := dk_42 (dk_at dksL_law_6 20 rfl rfl)
theorem dL_law_321 : decode cL_law 321 = .ok (.iload_n 3, 1) := dk_29 (dk_at dksL_law_6 21 rfl rfl)
theorem dL_law_322 : decode cL_law 322 = .ok (.iconst 2, 1) := dk_5 (dk_at dksL_law_6 22 rfl rfl)
theorem dL_law_323 : decode cL_law 323 = .ok (.iadd, 1) := dk_96 (dk_at dksL_law_6 23 rfl rfl)
theorem dL_law_324 : decode cL_law 324 = .ok (.iaload, 1) := dk_46 (dk_at dksL_law_7 0 rfl rfl)
theorem dL_law_325 : decode cL_law 325 = .ok (.invokevirtual 23, 3) := dk_182 0 23 (dk_at dksL_law_7 1 rfl rfl)
theorem dL_law_328 : decode cL_law 328 = .ok (.aload_n 2, 1) := dk_44 (dk_at dksL_law_7 4 rfl rfl)
theorem dL_law_329 : decode cL_law 329 = .ok (.aload_n 0, 1) := dk_42 (dk_at dksL_law_7 5 rfl rfl)
theorem dL_law_330 : decode cL_law 330 = .ok (.iload_n 3, 1) := dk_29 (dk_at dksL_law_7 6 rfl rfl)
theorem dL_law_331 : decode cL_law 331 = .ok (.iconst 1, 1) := dk_4 (dk_at dksL_law_7 7 rfl rfl)
theorem dL_law_332 : decode cL_law 332 = .ok (.iadd, 1) := dk_96 (dk_at dksL_law_7 8 rfl rfl)
theorem dL_law_333 : decode cL_law 333 = .ok (.iaload, 1) := dk_46 (dk_at dksL_law_7 9 rfl rfl)
theorem dL_law_334 : decode cL_law 334 = .ok (.aload_n 0, 1) := dk_42 (dk_at dksL_law_7 10 rfl rfl)
theorem dL_law_335 : decode cL_law 335 = .ok (.iload_n 3, 1) := dk_29 (dk_at dksL_law_7 11 rfl rfl)
theorem dL_law_336 : decode cL_law 336 = .ok (.iconst 2, 1) := dk_5 (dk_at dksL_law_7 12 rfl rfl)
theorem dL_law_337 : decode cL_law 337 = .ok (.iadd, 1) := dk_96 (dk_at dksL_law_7 13 rfl rfl)
theorem dL_law_338 : decode cL_law 338 = .ok (.iaload, 1) := dk_46 (dk_at dksL_law_7 14 rfl rfl)
theorem dL_law_339 : decode cL_law 339 = .ok (.invokevirtual 27, 3) := dk_182 0 27 (dk_at dksL_law_7 15 rfl rfl)
theorem dL_law_342 : decode cL_law 342 = .ok (.if_icmp .eq 1164, 3) := dk_159 4 140 (dk_at dksL_law_7 18 rfl rfl)
theorem dL_law_345 : decode cL_law 345 = .ok (.iconst 0, 1) := dk_3 (dk_at dksL_law_7 21 rfl rfl)
theorem dL_law_346 : decode cL_law 346 = .ok (.ireturn, 1) := dk_172 (dk_at dksL_law_7 22 rfl rfl)
theorem dL_law_347 : decode cL_law 347 = .ok (.aload_n 1, 1) := dk_43 (dk_at dksL_law_7 23 rfl rfl)
theorem dL_law_348 : decode cL_law 348 = .ok (.aload_n 0, 1) := dk_42 (dk_at dksL_law_8 0 rfl rfl)
theorem dL_law_349 : decode cL_law 349 = .ok (.iload_n 3, 1) := dk_29 (dk_at dksL_law_8 1 rfl rfl)
theorem dL_law_350 : decode cL_law 350 = .ok (.iconst 1, 1) := dk_4 (dk_at dksL_law_8 2 rfl rfl)
theorem dL_law_351 : decode cL_law 351 = .ok (.iadd, 1) := dk_96 (dk_at dksL_law_8 3 rfl rfl)
theorem dL_law_352 : decode cL_law 352 = .ok (.iaload, 1) := dk_46 (dk_at dksL_law_8 4 rfl rfl)
theorem dL_law_353 : decode cL_law 353 = .ok (.aload_n 0, 1) := dk_42 (dk_at dksL_law_8 5 rfl rfl)
theorem dL_law_354 : decode cL_law 354 = .ok (.iload_n 3, 1) := dk_29 (dk_at dksL_law_8 6 rfl rfl)
theorem dL_law_355 : decode cL_law 355 = .ok (.iconst 2, 1) := dk_5 (dk_at dksL_law_8 7 rfl rfl)
theorem dL_law_356 : decode cL_law 356 = .ok (.iadd, 1) := dk_96 (dk_at dksL_law_8 8 rfl rfl)
theorem dL_law_357 : decode cL_law 357 = .ok (.iaload, 1) := dk_46 (dk_at dksL_law_8 9 rfl rfl)
theorem dL_law_358 : decode cL_law 358 = .ok (.invokevirtual 28, 3) := dk_182 0 28 (dk_at dksL_law_8 10 rfl rfl)
theorem dL_law_361 : decode cL_law 361 = .ok (.aload_n 2, 1) := dk_44 (dk_at dksL_law_8 13 rfl rfl)
theorem dL_law_362 : decode cL_law 362 = .ok (.aload_n 0, 1) := dk_42 (dk_at dksL_law_8 14 rfl rfl)
theorem dL_law_363 : decode cL_law 363 = .ok (.iload_n 3, 1) := dk_29 (dk_at dksL_law_8 15 rfl rfl)
theorem dL_law_364 : decode cL_law 364 = .ok (.iconst 1, 1) := dk_4 (dk_at dksL_law_8 16 rfl rfl)
theorem dL_law_365 : decode cL_law 365 = .ok (.iadd, 1) := dk_96 (dk_at dksL_law_8 17 rfl rfl)
theorem dL_law_366 : decode cL_law 366 = .ok (.iaload, 1) := dk_46 (dk_at dksL_law_8 18 rfl rfl)
theorem dL_law_367 : decode cL_law 367 = .ok (.aload_n 0, 1) := dk_42 (dk_at dksL_law_8 19 rfl rfl)
theorem dL_law_368 : decode cL_law 368 = .ok (.iload_n 3, 1) := dk_29 (dk_at dksL_law_8 20 rfl rfl)
theorem dL_law_369 : decode cL_law 369 = .ok (.iconst 2, 1) := dk_5 (dk_at dksL_law_8 21 rfl rfl)
theorem dL_law_370 : decode cL_law 370 = .ok (.iadd, 1) := dk_96 (dk_at dksL_law_8 22 rfl rfl)
theorem dL_law_371 : decode cL_law 371 = .ok (.iaload, 1) := dk_46 (dk_at dksL_law_8 23 rfl rfl)
theorem dL_law_372 : decode cL_law 372 = .ok (.invokevirtual 31, 3) := dk_182 0 31 (dk_at dksL_law_9 0 rfl rfl)
theorem dL_law_375 : decode cL_law 375 = .ok (.if_icmp .eq 1131, 3) := dk_159 4 107 (dk_at dksL_law_9 3 rfl rfl)
theorem dL_law_378 : decode cL_law 378 = .ok (.iconst 0, 1) := dk_3 (dk_at dksL_law_9 6 rfl rfl)
theorem dL_law_379 : decode cL_law 379 = .ok (.ireturn, 1) := dk_172 (dk_at dksL_law_9 7 rfl rfl)
theorem dL_law_380 : decode cL_law 380 = .ok (.aload_n 1, 1) := dk_43 (dk_at dksL_law_9 8 rfl rfl)
theorem dL_law_381 : decode cL_law 381 = .ok (.aload_n 0, 1) := dk_42 (dk_at dksL_law_9 9 rfl rfl)
theorem dL_law_382 : decode cL_law 382 = .ok (.iload_n 3, 1) := dk_29 (dk_at dksL_law_9 10 rfl rfl)
theorem dL_law_383 : decode cL_law 383 = .ok (.iconst 1, 1) := dk_4 (dk_at dksL_law_9 11 rfl rfl)
theorem dL_law_384 : decode cL_law 384 = .ok (.iadd, 1) := dk_96 (dk_at dksL_law_9 12 rfl rfl)
theorem dL_law_385 : decode cL_law 385 = .ok (.iaload, 1) := dk_46 (dk_at dksL_law_9 13 rfl rfl)
theorem dL_law_386 : decode cL_law 386 = .ok (.aload_n 0, 1) := dk_42 (dk_at dksL_law_9 14 rfl rfl)
theorem dL_law_387 : decode cL_law 387 = .ok (.iload_n 3, 1) := dk_29 (dk_at dksL_law_9 15 rfl rfl)
theorem dL_law_388 : decode cL_law 388 = .ok (.iconst 2, 1) := dk_5 (dk_at dksL_law_9 16 rfl rfl)
theorem dL_law_389 : decode cL_law 389 = .ok (.iadd, 1) := dk_96 (dk_at dksL_law_9 17 rfl rfl)
theorem dL_law_390 : decode cL_law 390 = .ok (.iaload, 1) := dk_46 (dk_at dksL_law_9 18 rfl rfl)
theorem dL_law_391 : decode cL_law 391 = .ok (.aload_n 0, 1) := dk_42 (dk_at dksL_law_9 19 rfl rfl)
theorem dL_law_392 : decode cL_law 392 = .ok (.iload_n 3, 1) := dk_29 (dk_at dksL_law_9 20 rfl rfl)
theorem dL_law_393 : decode cL_law 393 = .ok (.iconst 3, 1) := dk_6 (dk_at dksL_law_9 21 rfl rfl)
theorem dL_law_394 : decode cL_law 394 = .ok (.iadd, 1) := dk_96 (dk_at dksL_law_9 22 rfl rfl)
theorem dL_law_395 : decode cL_law 395 = .ok (.iaload, 1) := dk_46 (dk_at dksL_law_9 23 rfl rfl)
theorem dL_law_396 : decode cL_law 396 = .ok (.invokevirtual 32, 3) := dk_182 0 32 (dk_at dksL_law_10 0 rfl rfl)
theorem dL_law_399 : decode cL_law 399 = .ok (.aload_n 2, 1) := dk_44 (dk_at dksL_law_10 3 rfl rfl)
theorem dL_law_400 : decode cL_law 400 = .ok (.aload_n 0, 1) := dk_42 (dk_at dksL_law_10 4 rfl rfl)
theorem dL_law_401 : decode cL_law 401 = .ok (.iload_n 3, 1) := dk_29 (dk_at dksL_law_10 5 rfl rfl)
theorem dL_law_402 : decode cL_law 402 = .ok (.iconst 1, 1) := dk_4 (dk_at dksL_law_10 6 rfl rfl)
theorem dL_law_403 : decode cL_law 403 = .ok (.iadd, 1) := dk_96 (dk_at dksL_law_10 7 rfl rfl)
theorem dL_law_404 : decode cL_law 404 = .ok (.iaload, 1) := dk_46 (dk_at dksL_law_10 8 rfl rfl)
theorem dL_law_405 : decode cL_law 405 = .ok (.aload_n 0, 1) := dk_42 (dk_at dksL_law_10 9 rfl rfl)
theorem dL_law_406 : decode cL_law 406 = .ok (.iload_n 3, 1) := dk_29 (dk_at dksL_law_10 10 rfl rfl)
theorem dL_law_407 : decode cL_law 407 = .ok (.iconst 2, 1) := dk_5 (dk_at dksL_law_10 11 rfl rfl)
theorem dL_law_408 : decode cL_law 408 = .ok (.iadd, 1) := dk_96 (dk_at dksL_law_10 12 rfl rfl)
theorem dL_law_409 : decode cL_law 409 = .ok (.iaload, 1) := dk_46 (dk_at dksL_law_10 13 rfl rfl)
theorem dL_law_410 : decode cL_law 410 = .ok (.aload_n 0, 1) := dk_42 (dk_at dksL_law_10 14 rfl rfl)
theorem dL_law_411 : decode cL_law 411 = .ok (.iload_n 3, 1) := dk_29 (dk_at dksL_law_10 15 rfl rfl)
theorem dL_law_412 : decode cL_law 412 = .ok (.iconst 3, 1) := dk_6 (dk_at dksL_law_10 16 rfl rfl)
theorem dL_law_413 : decode cL_law 413 = .ok (.iadd, 1) := dk_96 (dk_at dksL_law_10 17 rfl rfl)
theorem dL_law_414 : decode cL_law 414 = .ok (.iaload, 1) := dk_46 (dk_at dksL_law_10 18 rfl rfl)
theorem dL_law_415 : decode cL_law 415 = .ok (.invokevirtual 36, 3) := dk_182 0 36 (dk_at dksL_law_10 19 rfl rfl)
theorem dL_law_418 : decode cL_law 418 = .ok (.if_icmp .eq 1088, 3) := dk_159 4 64 (dk_at dksL_law_11 0 rfl rfl)
theorem dL_law_421 : decode cL_law 421 = .ok (.iconst 0, 1) := dk_3 (dk_at dksL_law_11 3 rfl rfl)
theorem dL_law_422 : decode cL_law 422 = .ok (.ireturn, 1) := dk_172 (dk_at dksL_law_11 4 rfl rfl)
theorem dL_law_423 : decode cL_law 423 = .ok (.aload_n 1, 1) := dk_43 (dk_at dksL_law_11 5 rfl rfl)
theorem dL_law_424 : decode cL_law 424 = .ok (.aload_n 0, 1) := dk_42 (dk_at dksL_law_11 6 rfl rfl)
theorem dL_law_425 : decode cL_law 425 = .ok (.iload_n 3, 1) := dk_29 (dk_at dksL_law_11 7 rfl rfl)
theorem dL_law_426 : decode cL_law 426 = .ok (.iconst 1, 1) := dk_4 (dk_at dksL_law_11 8 rfl rfl)
theorem dL_law_427 : decode cL_law 427 = .ok (.iadd, 1) := dk_96 (dk_at dksL_law_11 9 rfl rfl)
theorem dL_law_428 : decode cL_law 428 = .ok (.iaload, 1) := dk_46 (dk_at dksL_law_11 10 rfl rfl)
theorem dL_law_429 : decode cL_law 429 = .ok (.aload_n 0, 1) := dk_42 (dk_at dksL_law_11 11 rfl rfl)
theorem dL_law_430 : decode cL_law 430 = .ok (.iload_n 3, 1) := dk_29 (dk_at dksL_law_11 12 rfl rfl)
theorem dL_law_431 : decode cL_law 431 = .ok (.iconst 2, 1) := dk_5 (dk_at dksL_law_11 13 rfl rfl)
theorem dL_law_432 : decode cL_law 432 = .ok (.iadd, 1) := dk_96 (dk_at dksL_law_11 14 rfl rfl)
theorem dL_law_433 : decode cL_law 433 = .ok (.iaload, 1) := dk_46 (dk_at dksL_law_11 15 rfl rfl)
theorem dL_law_434 : decode cL_law 434 = .ok (.invokevirtual 37, 3) := dk_182 0 37 (dk_at dksL_law_11 16 rfl rfl)
theorem dL_law_437 : decode cL_law 437 = .ok (.aload_n 2, 1) := dk_44 (dk_at dksL_law_11 19 rfl rfl)
theorem dL_law_438 : decode cL_law 438 = .ok (.aload_n 0, 1) := dk_42 (dk_at dksL_law_11 20 rfl rfl)
theorem dL_law_439 : decode cL_law 439 = .ok (.iload_n 3, 1) := dk_29 (dk_at dksL_law_11 21 rfl rfl)
theorem dL_law_440 : decode cL_law 440 = .ok (.iconst 1, 1) := dk_4 (dk_at dksL_law_11 22 rfl rfl)
theorem dL_law_441 : decode cL_law 441 = .ok (.iadd, 1) := dk_96 (dk_at dksL_law_11 23 rfl rfl)
theorem dL_law_442 : decode cL_law 442 = .ok (.iaload, 1) := dk_46 (dk_at dksL_law_12 0 rfl rfl)
theorem dL_law_443 : decode cL_law 443 = .ok (.aload_n 0, 1) := dk_42 (dk_at dksL_law_12 1 rfl rfl)
theorem dL_law_444 : decode cL_law 444 = .ok (.iload_n 3, 1) := dk_29 (dk_at dksL_law_12 2 rfl rfl)
theorem dL_law_445 : decode cL_law 445 = .ok (.iconst 2, 1) := dk_5 (dk_at dksL_law_12 3 rfl rfl)
theorem dL_law_446 : decode cL_law 446 = .ok (.iadd, 1) := dk_96 (dk_at dksL_law_12 4 rfl rfl)
theorem dL_law_447 : decode cL_law 447 = .ok (.iaload, 1) := dk_46 (dk_at dksL_law_12 5 rfl rfl)
theorem dL_law_448 : decode cL_law 448 = .ok (.invokevirtual 40, 3) := dk_182 0 40 (dk_at dksL_law_12 6 rfl rfl)
theorem dL_law_451 : decode cL_law 451 = .ok (.if_icmp .eq 1055, 3) := dk_159 4 31 (dk_at dksL_law_12 9 rfl rfl)
theorem dL_law_454 : decode cL_law 454 = .ok (.iconst 0, 1) := dk_3 (dk_at dksL_law_12 12 rfl rfl)
theorem dL_law_455 : decode cL_law 455 = .ok (.ireturn, 1) := dk_172 (dk_at dksL_law_12 13 rfl rfl)
theorem dL_law_456 : decode cL_law 456 = .ok (.aload_n 1, 1) := dk_43 (dk_at dksL_law_12 14 rfl rfl)
theorem dL_law_457 : decode cL_law 457 = .ok (.aload_n 0, 1) := dk_42 (dk_at dksL_law_12 15 rfl rfl)
theorem dL_law_458 : decode cL_law 458 = .ok (.iload_n 3, 1) := dk_29 (dk_at dksL_law_12 16 rfl rfl)
theorem dL_law_459 : decode cL_law 459 = .ok (.iconst 1, 1) := dk_4 (dk_at dksL_law_12 17 rfl rfl)
theorem dL_law_460 : decode cL_law 460 = .ok (.iadd, 1) := dk_96 (dk_at dksL_law_12 18 rfl rfl)
theorem dL_law_461 : decode cL_law 461 = .ok (.iaload, 1) := dk_46 (dk_at dksL_law_12 19 rfl rfl)
theorem dL_law_462 : decode cL_law 462 = .ok (.aload_n 0, 1) := dk_42 (dk_at dksL_law_12 20 rfl rfl)
theorem dL_law_463 : decode cL_law 463 = .ok (.iload_n 3, 1) := dk_29 (dk_at dksL_law_12 21 rfl rfl)
theorem dL_law_464 : decode cL_law 464 = .ok (.iconst 2, 1) := dk_5 (dk_at dksL_law_12 22 rfl rfl)
theorem dL_law_465 : decode cL_law 465 = .ok (.iadd, 1) := dk_96 (dk_at dksL_law_12 23 rfl rfl)
theorem dL_law_466 : decode cL_law 466 = .ok (.iaload, 1) := dk_46 (dk_at dksL_law_13 0 rfl rfl)
theorem dL_law_467 : decode cL_law 467 = .ok (.invokevirtual 41, 3) := dk_182 0 41 (dk_at dksL_law_13 1 rfl rfl)
theorem dL_law_470 : decode cL_law 470 = .ok (.aload_n 2, 1) := dk_44 (dk_at dksL_law_13 4 rfl rfl)
theorem dL_law_471 : decode cL_law 471 = .ok (.aload_n 0, 1) := dk_42 (dk_at dksL_law_13 5 rfl rfl)
theorem dL_law_472 : decode cL_law 472 = .ok (.iload_n 3, 1) := dk_29 (dk_at dksL_law_13 6 rfl rfl)
theorem dL_law_473 : decode cL_law 473 = .ok (.iconst 1, 1) := dk_4 (dk_at dksL_law_13 7 rfl rfl)
theorem dL_law_474 : decode cL_law 474 = .ok (.iadd, 1) := dk_96 (dk_at dksL_law_13 8 rfl rfl)
theorem dL_law_475 : decode cL_law 475 = .ok (.iaload, 1) := dk_46 (dk_at dksL_law_13 9 rfl rfl)
theorem dL_law_476 : decode cL_law 476 = .ok (.aload_n 0, 1) := dk_42 (dk_at dksL_law_13 10 rfl rfl)
theorem dL_law_477 : decode cL_law 477 = .ok (.iload_n 3, 1) := dk_29 (dk_at dksL_law_13 11 rfl rfl)
theorem dL_law_478 : decode cL_law 478 = .ok (.iconst 2, 1) := dk_5 (dk_at dksL_law_13 12 rfl rfl)
theorem dL_law_479 : decode cL_law 479 = .ok (.iadd, 1) := dk_96 (dk_at dksL_law_13 13 rfl rfl)
theorem dL_law_480 : decode cL_law 480 = .ok (.iaload, 1) := dk_46 (dk_at dksL_law_13 14 rfl rfl)
theorem dL_law_481 : decode cL_law 481 = .ok (.invokevirtual 44, 3) := dk_182 0 44 (dk_at dksL_law_13 15 rfl rfl)
theorem dL_law_484 : decode cL_law 484 = .ok (.if_icmp .eq 1022, 3) := dk_159 3 254 (dk_at dksL_law_13 18 rfl rfl)
theorem dL_law_487 : decode cL_law 487 = .ok (.iconst 0, 1) := dk_3 (dk_at dksL_law_13 21 rfl rfl)
theorem dL_law_488 : decode cL_law 488 = .ok (.ireturn, 1) := dk_172 (dk_at dksL_law_13 22 rfl rfl)
theorem dL_law_489 : decode cL_law 489 = .ok (.aload_n 1, 1) := dk_43 (dk_at dksL_law_13 23 rfl rfl)
theorem dL_law_490 : decode cL_law 490 = .ok (.aload_n 0, 1) := dk_42 (dk_at dksL_law_14 0 rfl rfl)
theorem dL_law_491 : decode cL_law 491 = .ok (.iload_n 3, 1) := dk_29 (dk_at dksL_law_14 1 rfl rfl)
theorem dL_law_492 : decode cL_law 492 = .ok (.iconst 1, 1) := dk_4 (dk_at dksL_law_14 2 rfl rfl)
theorem dL_law_493 : decode cL_law 493 = .ok (.iadd, 1) := dk_96 (dk_at dksL_law_14 3 rfl rfl)
theorem dL_law_494 : decode cL_law 494 = .ok (.iaload, 1) := dk_46 (dk_at dksL_law_14 4 rfl rfl)
theorem dL_law_495 : decode cL_law 495 = .ok (.aload_n 0, 1) := dk_42 (dk_at dksL_law_14 5 rfl rfl)
theorem dL_law_496 : decode cL_law 496 = .ok (.iload_n 3, 1) := dk_29 (dk_at dksL_law_14 6 rfl rfl)
theorem dL_law_497 : decode cL_law 497 = .ok (.iconst 2, 1) := dk_5 (dk_at dksL_law_14 7 rfl rfl)
theorem dL_law_498 : decode cL_law 498 = .ok (.iadd, 1) := dk_96 (dk_at dksL_law_14 8 rfl rfl)
theorem dL_law_499 : decode cL_law 499 = .ok (.iaload, 1) := dk_46 (dk_at dksL_law_14 9 rfl rfl)
theorem dL_law_500 : decode cL_law 500 = .ok (.invokevirtual 45, 3) := dk_182 0 45 (dk_at dksL_law_14 10 rfl rfl)
theorem dL_law_503 : decode cL_law 503 = .ok (.aload_n 2, 1) := dk_44 (dk_at dksL_law_14 13 rfl rfl)
theorem dL_law_504 : decode cL_law 504 = .ok (.aload_n 0, 1) := dk_42 (dk_at dksL_law_14 14 rfl rfl)
theorem dL_law_505 : decode cL_law 505 = .ok (.iload_n 3, 1) := dk_29 (dk_at dksL_law_14 15 rfl rfl)
theorem dL_law_506 : decode cL_law 506 = .ok (.iconst 1, 1) := dk_4 (dk_at dksL_law_14 16 rfl rfl)
theorem dL_law_507 : decode cL_law 507 = .ok (.iadd, 1) := dk_96 (dk_at dksL_law_14 17 rfl rfl)
theorem dL_law_508 : decode cL_law 508 = .ok (.iaload, 1) := dk_46 (dk_at dksL_law_14 18 rfl rfl)
theorem dL_law_509 : decode cL_law 509 = .ok (.aload_n 0, 1) := dk_42 (dk_at dksL_law_14 19 rfl rfl)
theorem dL_law_510 : decode cL_law 510 = .ok (.iload_n 3, 1) := dk_29 (dk_at dksL_law_14 20 rfl rfl)
theorem dL_law_511 : decode cL_law 511 = .ok (.iconst 2, 1) := dk_5 (dk_at dksL_law_14 21 rfl rfl)
theorem dL_law_512 : decode cL_law 512 = .ok (.iadd, 1) := dk_96 (dk_at dksL_law_14 22 rfl rfl)
theorem dL_law_513 : decode cL_law 513 = .ok (.iaload, 1) := dk_46 (dk_at dksL_law_14 23 rfl rfl)
theorem dL_law_514 : decode cL_law 514 = .ok (.invokevirtual 48, 3) := dk_182 0 48 (dk_at dksL_law_15 0 rfl rfl)
theorem dL_law_517 : decode cL_law 517 = .ok (.if_icmp .eq 989, 3) := dk_159 3 221 (dk_at dksL_law_15 3 rfl rfl)
theorem dL_law_520 : decode cL_law 520 = .ok (.iconst 0, 1) := dk_3 (dk_at dksL_law_15 6 rfl rfl)
theorem dL_law_521 : decode cL_law 521 = .ok (.ireturn, 1) := dk_172 (dk_at dksL_law_15 7 rfl rfl)
theorem dL_law_522 : decode cL_law 522 = .ok (.aload_n 1, 1) := dk_43 (dk_at dksL_law_15 8 rfl rfl)
theorem dL_law_523 : decode cL_law 523 = .ok (.aload_n 0, 1) := dk_42 (dk_at dksL_law_15 9 rfl rfl)
theorem dL_law_524 : decode cL_law 524 = .ok (.iload_n 3, 1) := dk_29 (dk_at dksL_law_15 10 rfl rfl)
theorem dL_law_525 : decode cL_law 525 = .ok (.iconst 1, 1) := dk_4 (dk_at dksL_law_15 11 rfl rfl)
theorem dL_law_526 : decode cL_law 526 = .ok (.iadd, 1) := dk_96 (dk_at dksL_law_15 12 rfl rfl)
theorem dL_law_527 : decode cL_law 527 = .ok (.iaload, 1) := dk_46 (dk_at dksL_law_15 13 rfl rfl)
theorem dL_law_528 : decode cL_law 528 = .ok (.invokevirtual 49, 3) := dk_182 0 49 (dk_at dksL_law_15 14 rfl rfl)
theorem dL_law_531 : decode cL_law 531 = .ok (.aload_n 2, 1) := dk_44 (dk_at dksL_law_15 17 rfl rfl)
theorem dL_law_532 : decode cL_law 532 = .ok (.aload_n 0, 1) := dk_42 (dk_at dksL_law_15 18 rfl rfl)
theorem dL_law_533 : decode cL_law 533 = .ok (.iload_n 3, 1) := dk_29 (dk_at dksL_law_15 19 rfl rfl)
theorem dL_law_534 : decode cL_law 534 = .ok (.iconst 1, 1) := dk_4 (dk_at dksL_law_15 20 rfl rfl)
theorem dL_law_535 : decode cL_law 535 = .ok (.iadd, 1) := dk_96 (dk_at dksL_law_15 21 rfl rfl)
theorem dL_law_536 : decode cL_law 536 = .ok (.iaload, 1) := dk_46 (dk_at dksL_law_15 22 rfl rfl)
theorem dL_law_537 : decode cL_law 537 = .ok (.invokevirtual 52, 3) := dk_182 0 52 (dk_at dksL_law_16 0 rfl rfl)
theorem dL_law_540 : decode cL_law 540 = .ok (.if_icmp .eq 966, 3) := dk_159 3 198 (dk_at dksL_law_16 3 rfl rfl)
theorem dL_law_543 : decode cL_law 543 = .ok (.iconst 0, 1) := dk_3 (dk_at dksL_law_16 6 rfl rfl)
theorem dL_law_544 : decode cL_law 544 = .ok (.ireturn, 1) := dk_172 (dk_at dksL_law_16 7 rfl rfl)
theorem dL_law_545 : decode cL_law 545 = .ok (.aload_n 1, 1) := dk_43 (dk_at dksL_law_16 8 rfl rfl)
theorem dL_law_546 : decode cL_law 546 = .ok (.invokevirtual 53, 3) := dk_182 0 53 (dk_at dksL_law_16 9 rfl rfl)
theorem dL_law_549 : decode cL_law 549 = .ok (.aload_n 2, 1) := dk_44 (dk_at dksL_law_16 12 rfl rfl)
theorem dL_law_550 : decode cL_law 550 = .ok (.invokevirtual 57, 3) := dk_182 0 57 (dk_at dksL_law_16 13 rfl rfl)
theorem dL_law_553 : decode cL_law 553 = .ok (.if_icmp .eq 953, 3) := dk_159 3 185 (dk_at dksL_law_16 16 rfl rfl)
theorem dL_law_556 : decode cL_law 556 = .ok (.iconst 0, 1) := dk_3 (dk_at dksL_law_16 19 rfl rfl)
theorem dL_law_557 : decode cL_law 557 = .ok (.ireturn, 1) := dk_172 (dk_at dksL_law_16 20 rfl rfl)
theorem dL_law_558 : decode cL_law 558 = .ok (.aload_n 1, 1) := dk_43 (dk_at dksL_law_16 21 rfl rfl)
theorem dL_law_559 : decode cL_law 559 = .ok (.aload_n 0, 1) := dk_42 (dk_at dksL_law_16 22 rfl rfl)
theorem dL_law_560 : decode cL_law 560 = .ok (.iload_n 3, 1) := dk_29 (dk_at dksL_law_16 23 rfl rfl)
theorem dL_law_561 : decode cL_law 561 = .ok (.iconst 1, 1) := dk_4 (dk_at dksL_law_17 0 rfl rfl)
theorem dL_law_562 : decode cL_law 562 = .ok (.iadd, 1) := dk_96 (dk_at dksL_law_17 1 rfl rfl)
theorem dL_law_563 : decode cL_law 563 = .ok (.iaload, 1) := dk_46 (dk_at dksL_law_17 2 rfl rfl)
theorem dL_law_564 : decode cL_law 564 = .ok (.invokevirtual 58, 3) := dk_182 0 58 (dk_at dksL_law_17 3 rfl rfl)
theorem dL_law_567 : decode cL_law 567 = .ok (.aload_n 2, 1) := dk_44 (dk_at dksL_law_17 6 rfl rfl)
theorem dL_law_568 : decode cL_law 568 = .ok (.aload_n 0, 1) := dk_42 (dk_at dksL_law_17 7 rfl rfl)
theorem dL_law_569 : decode cL_law 569 = .ok (.iload_n 3, 1) := dk_29 (dk_at dksL_law_17 8 rfl rfl)
theorem dL_law_570 : decode cL_law 570 = .ok (.iconst 1, 1) := dk_4 (dk_at dksL_law_17 9 rfl rfl)
theorem dL_law_571 : decode cL_law 571 = .ok (.iadd, 1) := dk_96 (dk_at dksL_law_17 10 rfl rfl)
theorem dL_law_572 : decode cL_law 572 = .ok (.iaload, 1) := dk_46 (dk_at dksL_law_17 11 rfl rfl)
theorem dL_law_573 : decode cL_law 573 = .ok (.invokevirtual 61, 3) := dk_182 0 61 (dk_at dksL_law_17 12 rfl rfl)
theorem dL_law_576 : decode cL_law 576 = .ok (.if_icmp .eq 930, 3) := dk_159 3 162 (dk_at dksL_law_17 15 rfl rfl)
theorem dL_law_579 : decode cL_law 579 = .ok (.iconst 0, 1) := dk_3 (dk_at dksL_law_17 18 rfl rfl)
theorem dL_law_580 : decode cL_law 580 = .ok (.ireturn, 1) := dk_172 (dk_at dksL_law_17 19 rfl rfl)
theorem dL_law_581 : decode cL_law 581 = .ok (.aload_n 1, 1) := dk_43 (dk_at dksL_law_17 20 rfl rfl)
theorem dL_law_582 : decode cL_law 582 = .ok (.invokevirtual 62, 3) := dk_182 0 62 (dk_at dksL_law_17 21 rfl rfl)
theorem dL_law_585 : decode cL_law 585 = .ok (.aload_n 2, 1) := dk_44 (dk_at dksL_law_18 0 rfl rfl)
theorem dL_law_586 : decode cL_law 586 = .ok (.invokevirtual 65, 3) := dk_182 0 65 (dk_at dksL_law_18 1 rfl rfl)
theorem dL_law_589 : decode cL_law 589 = .ok (.if_icmp .eq 917, 3) := dk_159 3 149 (dk_at dksL_law_18 4 rfl rfl)
theorem dL_law_592 : decode cL_law 592 = .ok (.iconst 0, 1) := dk_3 (dk_at dksL_law_18 7 rfl rfl)
theorem dL_law_593 : decode cL_law 593 = .ok (.ireturn, 1) := dk_172 (dk_at dksL_law_18 8 rfl rfl)
theorem dL_law_594 : decode cL_law 594 = .ok (.aload_n 1, 1) := dk_43 (dk_at dksL_law_18 9 rfl rfl)
theorem dL_law_595 : decode cL_law 595 = .ok (.aload_n 0, 1) := dk_42 (dk_at dksL_law_18 10 rfl rfl)
theorem dL_law_596 : decode cL_law 596 = .ok (.iload_n 3, 1) := dk_29 (dk_at dksL_law_18 11 rfl rfl)
theorem dL_law_597 : decode cL_law 597 = .ok (.iconst 1, 1) := dk_4 (dk_at dksL_law_18 12 rfl rfl)
theorem dL_law_598 : decode cL_law 598 = .ok (.iadd, 1) := dk_96 (dk_at dksL_law_18 13 rfl rfl)
theorem dL_law_599 : decode cL_law 599 = .ok (.iaload, 1) := dk_46 (dk_at dksL_law_18 14 rfl rfl)
theorem dL_law_600 : decode cL_law 600 = .ok (.invokevirtual 66, 3) := dk_182 0 66 (dk_at dksL_law_18 15 rfl rfl)
theorem dL_law_603 : decode cL_law 603 = .ok (.aload_n 2, 1) := dk_44 (dk_at dksL_law_18 18 rfl rfl)
theorem dL_law_604 : decode cL_law 604 = .ok (.aload_n 0, 1) := dk_42 (dk_at dksL_law_18 19 rfl rfl)
theorem dL_law_605 : decode cL_law 605 = .ok (.iload_n 3, 1) := dk_29 (dk_at dksL_law_18 20 rfl rfl)
theorem dL_law_606 : decode cL_law 606 = .ok (.iconst 1, 1) := dk_4 (dk_at dksL_law_18 21 rfl rfl)
theorem dL_law_607 : decode cL_law 607 = .ok (.iadd, 1) := dk_96 (dk_at dksL_law_18 22 rfl rfl)
theorem dL_law_608 : decode cL_law 608 = .ok (.iaload, 1) := dk_46 (dk_at dksL_law_18 23 rfl rfl)
theorem dL_law_609 : decode cL_law 609 = .ok (.invokevirtual 69, 3) := dk_182 0 69 (dk_at dksL_law_19 0 rfl rfl)
theorem dL_law_612 : decode cL_law 612 = .ok (.if_icmp .eq 894, 3) := dk_159 3 126 (dk_at dksL_law_19 3 rfl rfl)
theorem dL_law_615 : decode cL_law 615 = .ok (.iconst 0, 1) := dk_3 (dk_at dksL_law_19 6 rfl rfl)
theorem dL_law_616 : decode cL_law 616 = .ok (.ireturn, 1) := dk_172 (dk_at dksL_law_19 7 rfl rfl)
theorem dL_law_617 : decode cL_law 617 = .ok (.aload_n 1, 1) := dk_43 (dk_at dksL_law_19 8 rfl rfl)
theorem dL_law_618 : decode cL_law 618 = .ok (.aload_n 0, 1) := dk_42 (dk_at dksL_law_19 9 rfl rfl)
theorem dL_law_619 : decode cL_law 619 = .ok (.iload_n 3, 1) := dk_29 (dk_at dksL_law_19 10 rfl rfl)
theorem dL_law_620 : decode cL_law 620 = .ok (.iconst 1, 1) := dk_4 (dk_at dksL_law_19 11 rfl rfl)
theorem dL_law_621 : decode cL_law 621 = .ok (.iadd, 1) := dk_96 (dk_at dksL_law_19 12 rfl rfl)
theorem dL_law_622 : decode cL_law 622 = .ok (.iaload, 1) := dk_46 (dk_at dksL_law_19 13 rfl rfl)
theorem dL_law_623 : decode cL_law 623 = .ok (.aload_n 0, 1) := dk_42 (dk_at dksL_law_19 14 rfl rfl)
theorem dL_law_624 : decode cL_law 624 = .ok (.iload_n 3, 1) := dk_29 (dk_at dksL_law_19 15 rfl rfl)
theorem dL_law_625 : decode cL_law 625 = .ok (.iconst 2, 1) := dk_5 (dk_at dksL_law_19 16 rfl rfl)
theorem dL_law_626 : decode cL_law 626 = .ok (.iadd, 1) := dk_96 (dk_at dksL_law_19 17 rfl rfl)
theorem dL_law_627 : decode cL_law 627 = .ok (.iaload, 1) := dk_46 (dk_at dksL_law_19 18 rfl rfl)
theorem dL_law_628 : decode cL_law 628 = .ok (.invokevirtual 70, 3) := dk_182 0 70 (dk_at dksL_law_19 19 rfl rfl)
theorem dL_law_631 : decode cL_law 631 = .ok (.aload_n 2, 1) := dk_44 (dk_at dksL_law_19 22 rfl rfl)
theorem dL_law_632 : decode cL_law 632 = .ok (.aload_n 0, 1) := dk_42 (dk_at dksL_law_19 23 rfl rfl)
theorem dL_law_633 : decode cL_law 633 = .ok (.iload_n 3, 1) := dk_29 (dk_at dksL_law_20 0 rfl rfl)
theorem dL_law_634 : decode cL_law 634 = .ok (.iconst 1, 1) := dk_4 (dk_at dksL_law_20 1 rfl rfl)
theorem dL_law_635 : decode cL_law 635 = .ok (.iadd, 1) := dk_96 (dk_at dksL_law_20 2 rfl rfl)
theorem dL_law_636 : decode cL_law 636 = .ok (.iaload, 1) := dk_46 (dk_at dksL_law_20 3 rfl rfl)
theorem dL_law_637 : decode cL_law 637 = .ok (.aload_n 0, 1) := dk_42 (dk_at dksL_law_20 4 rfl rfl)
theorem dL_law_638 : decode cL_law 638 = .ok (.iload_n 3, 1) := dk_29 (dk_at dksL_law_20 5 rfl rfl)
theorem dL_law_639 : decode cL_law 639 = .ok (.iconst 2, 1) := dk_5 (dk_at dksL_law_20 6 rfl rfl)
theorem dL_law_640 : decode cL_law 640 = .ok (.iadd, 1) := dk_96 (dk_at dksL_law_20 7 rfl rfl)
theorem dL_law_641 : decode cL_law 641 = .ok (.iaload, 1) := dk_46 (dk_at dksL_law_20 8 rfl rfl)
theorem dL_law_642 : decode cL_law 642 = .ok (.invokevirtual 73, 3) := dk_182 0 73 (dk_at dksL_law_20 9 rfl rfl)
theorem dL_law_645 : decode cL_law 645 = .ok (.if_icmp .eq 861, 3) := dk_159 3 93 (dk_at dksL_law_20 12 rfl rfl)
theorem dL_law_648 : decode cL_law 648 = .ok (.iconst 0, 1) := dk_3 (dk_at dksL_law_20 15 rfl rfl)
theorem dL_law_649 : decode cL_law 649 = .ok (.ireturn, 1) := dk_172 (dk_at dksL_law_20 16 rfl rfl)
theorem dL_law_650 : decode cL_law 650 = .ok (.aload_n 1, 1) := dk_43 (dk_at dksL_law_20 17 rfl rfl)
theorem dL_law_651 : decode cL_law 651 = .ok (.aload_n 0, 1) := dk_42 (dk_at dksL_law_20 18 rfl rfl)
theorem dL_law_652 : decode cL_law 652 = .ok (.iload_n 3, 1) := dk_29 (dk_at dksL_law_20 19 rfl rfl)
theorem dL_law_653 : decode cL_law 653 = .ok (.iconst 1, 1) := dk_4 (dk_at dksL_law_20 20 rfl rfl)
theorem dL_law_654 : decode cL_law 654 = .ok (.iadd, 1) := dk_96 (dk_at dksL_law_20 21 rfl rfl)
theorem dL_law_655 : decode cL_law 655 = .ok (.iaload, 1) := dk_46 (dk_at dksL_law_20 22 rfl rfl)
theorem dL_law_656 : decode cL_law 656 = .ok (.invokevirtual 74, 3) := dk_182 0 74 (dk_at dksL_law_21 0 rfl rfl)
theorem dL_law_659 : decode cL_law 659 = .ok (.aload_n 2, 1) := dk_44 (dk_at dksL_law_21 3 rfl rfl)
theorem dL_law_660 : decode cL_law 660 = .ok (.aload_n 0, 1) := dk_42 (dk_at dksL_law_21 4 rfl rfl)
theorem dL_law_661 : decode cL_law 661 = .ok (.iload_n 3, 1) := dk_29 (dk_at dksL_law_21 5 rfl rfl)
theorem dL_law_662 : decode cL_law 662 = .ok (.iconst 1, 1) := dk_4 (dk_at dksL_law_21 6 rfl rfl)
theorem dL_law_663 : decode cL_law 663 = .ok (.iadd, 1) := dk_96 (dk_at dksL_law_21 7 rfl rfl)
theorem dL_law_664 : decode cL_law 664 = .ok (.iaload, 1) := dk_46 (dk_at dksL_law_21 8 rfl rfl)
theorem dL_law_665 : decode cL_law 665 = .ok (.invokevirtual 77, 3) := dk_182 0 77 (dk_at dksL_law_21 9 rfl rfl)
theorem dL_law_668 : decode cL_law 668 = .ok (.if_icmp .eq 838, 3) := dk_159 3 70 (dk_at dksL_law_21 12 rfl rfl)
theorem dL_law_671 : decode cL_law 671 = .ok (.iconst 0, 1) := dk_3 (dk_at dksL_law_21 15 rfl rfl)
theorem dL_law_672 : decode cL_law 672 = .ok (.ireturn, 1) := dk_172 (dk_at dksL_law_21 16 rfl rfl)
theorem dL_law_673 : decode cL_law 673 = .ok (.aload_n 1, 1) := dk_43 (dk_at dksL_law_21 17 rfl rfl)
theorem dL_law_674 : decode cL_law 674 = .ok (.invokevirtual 78, 3) := dk_182 0 78 (dk_at dksL_law_21 18 rfl rfl)
theorem dL_law_677 : decode cL_law 677 = .ok (.aload_n 2, 1) := dk_44 (dk_at dksL_law_21 21 rfl rfl)
theorem dL_law_678 : decode cL_law 678 = .ok (.invokevirtual 81, 3) := dk_182 0 81 (dk_at dksL_law_22 0 rfl rfl)
theorem dL_law_681 : decode cL_law 681 = .ok (.if_icmp .eq 825, 3) := dk_159 3 57 (dk_at dksL_law_22 3 rfl rfl)
theorem dL_law_684 : decode cL_law 684 = .ok (.iconst 0, 1) := dk_3 (dk_at dksL_law_22 6 rfl rfl)
theorem dL_law_685 : decode cL_law 685 = .ok (.ireturn, 1) := dk_172 (dk_at dksL_law_22 7 rfl rfl)
theorem dL_law_686 : decode cL_law 686 = .ok (.aload_n 1, 1) := dk_43 (dk_at dksL_law_22 8 rfl rfl)
theorem dL_law_687 : decode cL_law 687 = .ok (.aload_n 0, 1) := dk_42 (dk_at dksL_law_22 9 rfl rfl)
theorem dL_law_688 : decode cL_law 688 = .ok (.iload_n 3, 1) := dk_29 (dk_at dksL_law_22 10 rfl rfl)
theorem dL_law_689 : decode cL_law 689 = .ok (.iconst 1, 1) := dk_4 (dk_at dksL_law_22 11 rfl rfl)
theorem dL_law_690 : decode cL_law 690 = .ok (.iadd, 1) := dk_96 (dk_at dksL_law_22 12 rfl rfl)
theorem dL_law_691 : decode cL_law 691 = .ok (.iaload, 1) := dk_46 (dk_at dksL_law_22 13 rfl rfl)
theorem dL_law_692 : decode cL_law 692 = .ok (.invokevirtual 82, 3) := dk_182 0 82 (dk_at dksL_law_22 14 rfl rfl)
theorem dL_law_695 : decode cL_law 695 = .ok (.aload_n 2, 1) := dk_44 (dk_at dksL_law_22 17 rfl rfl)
theorem dL_law_696 : decode cL_law 696 = .ok (.aload_n 0, 1) := dk_42 (dk_at dksL_law_22 18 rfl rfl)
theorem dL_law_697 : decode cL_law 697 = .ok (.iload_n 3, 1) := dk_29 (dk_at dksL_law_22 19 rfl rfl)
theorem dL_law_698 : decode cL_law 698 = .ok (.iconst 1, 1) := dk_4 (dk_at dksL_law_22 20 rfl rfl)
theorem dL_law_699 : decode cL_law 699 = .ok (.iadd, 1) := dk_96 (dk_at dksL_law_22 21 rfl rfl)
theorem dL_law_700 : decode cL_law 700 = .ok (.iaload, 1) := dk_46 (dk_at dksL_law_22 22 rfl rfl)
theorem dL_law_701 : decode cL_law 701 = .ok (.invokevirtual 85, 3) := dk_182 0 85 (dk_at dksL_law_23 0 rfl rfl)
theorem dL_law_704 : decode cL_law 704 = .ok (.if_icmp .eq 802, 3) := dk_159 3 34 (dk_at dksL_law_23 3 rfl rfl)
theorem dL_law_707 : decode cL_law 707 = .ok (.iconst 0, 1) := dk_3 (dk_at dksL_law_23 6 rfl rfl)
theorem dL_law_708 : decode cL_law 708 = .ok (.ireturn, 1) := dk_172 (dk_at dksL_law_23 7 rfl rfl)
theorem dL_law_709 : decode cL_law 709 = .ok (.aload_n 1, 1) := dk_43 (dk_at dksL_law_23 8 rfl rfl)
theorem dL_law_710 : decode cL_law 710 = .ok (.aload_n 0, 1) := dk_42 (dk_at dksL_law_23 9 rfl rfl)
theorem dL_law_711 : decode cL_law 711 = .ok (.iload_n 3, 1) := dk_29 (dk_at dksL_law_23 10 rfl rfl)
theorem dL_law_712 : decode cL_law 712 = .ok (.iconst 1, 1) := dk_4 (dk_at dksL_law_23 11 rfl rfl)
theorem dL_law_713 : decode cL_law 713 = .ok (.iadd, 1) := dk_96 (dk_at dksL_law_23 12 rfl rfl)
theorem dL_law_714 : decode cL_law 714 = .ok (.iaload, 1) := dk_46 (dk_at dksL_law_23 13 rfl rfl)
theorem dL_law_715 : decode cL_law 715 = .ok (.aload_n 0, 1) := dk_42 (dk_at dksL_law_23 14 rfl rfl)
theorem dL_law_716 : decode cL_law 716 = .ok (.iload_n 3, 1) := dk_29 (dk_at dksL_law_23 15 rfl rfl)
theorem dL_law_717 : decode cL_law 717 = .ok (.iconst 2, 1) := dk_5 (dk_at dksL_law_23 16 rfl rfl)
theorem dL_law_718 : decode cL_law 718 = .ok (.iadd, 1) := dk_96 (dk_at dksL_law_23 17 rfl rfl)
theorem dL_law_719 : decode cL_law 719 = .ok (.iaload, 1) := dk_46 (dk_at dksL_law_23 18 rfl rfl)
theorem dL_law_720 : decode cL_law 720 = .ok (.invokevirtual 86, 3) := dk_182 0 86 (dk_at dksL_law_23 19 rfl rfl)
theorem dL_law_723 : decode cL_law 723 = .ok (.aload_n 2, 1) := dk_44 (dk_at dksL_law_23 22 rfl rfl)
theorem dL_law_724 : decode cL_law 724 = .ok (.aload_n 0, 1) := dk_42 (dk_at dksL_law_23 23 rfl rfl)
theorem dL_law_725 : decode cL_law 725 = .ok (.iload_n 3, 1) := dk_29 (dk_at dksL_law_24 0 rfl rfl)
theorem dL_law_726 : decode cL_law 726 = .ok (.iconst 1, 1) := dk_4 (dk_at dksL_law_24 1 rfl rfl)
theorem dL_law_727 : decode cL_law 727 = .ok (.iadd, 1) := dk_96 (dk_at dksL_law_24 2 rfl rfl)
theorem dL_law_728 : decode cL_law 728 = .ok (.iaload, 1) := dk_46 (dk_at dksL_law_24 3 rfl rfl)
theorem dL_law_729 : decode cL_law 729 = .ok (.aload_n 0, 1) := dk_42 (dk_at dksL_law_24 4 rfl rfl)
theorem dL_law_730 : decode cL_law 730 = .ok (.iload_n 3, 1) := dk_29 (dk_at dksL_law_24 5 rfl rfl)
theorem dL_law_731 : decode cL_law 731 = .ok (.iconst 2, 1) := dk_5 (dk_at dksL_law_24 6 rfl rfl)
theorem dL_law_732 : decode cL_law 732 = .ok (.iadd, 1) := dk_96 (dk_at dksL_law_24 7 rfl rfl)
theorem dL_law_733 : decode cL_law 733 = .ok (.iaload, 1) := dk_46 (dk_at dksL_law_24 8 rfl rfl)
theorem dL_law_734 : decode cL_law 734 = .ok (.invokevirtual 89, 3) := dk_182 0 89 (dk_at dksL_law_24 9 rfl rfl)
theorem dL_law_737 : decode cL_law 737 = .ok (.if_icmp .eq 769, 3) := dk_159 3 1 (dk_at dksL_law_24 12 rfl rfl)
theorem dL_law_740 : decode cL_law 740 = .ok (.iconst 0, 1) := dk_3 (dk_at dksL_law_24 15 rfl rfl)
theorem dL_law_741 : decode cL_law 741 = .ok (.ireturn, 1) := dk_172 (dk_at dksL_law_24 16 rfl rfl)
theorem dL_law_742 : decode cL_law 742 = .ok (.aload_n 1, 1) := dk_43 (dk_at dksL_law_24 17 rfl rfl)
theorem dL_law_743 : decode cL_law 743 = .ok (.aload_n 0, 1) := dk_42 (dk_at dksL_law_24 18 rfl rfl)
theorem dL_law_744 : decode cL_law 744 = .ok (.iload_n 3, 1) := dk_29 (dk_at dksL_law_24 19 rfl rfl)
theorem dL_law_745 : decode cL_law 745 = .ok (.iconst 1, 1) := dk_4 (dk_at dksL_law_24 20 rfl rfl)
theorem dL_law_746 : decode cL_law 746 = .ok (.iadd, 1) := dk_96 (dk_at dksL_law_24 21 rfl rfl)
theorem dL_law_747 : decode cL_law 747 = .ok (.iaload, 1) := dk_46 (dk_at dksL_law_24 22 rfl rfl)
theorem dL_law_748 : decode cL_law 748 = .ok (.invokevirtual 90, 3) := dk_182 0 90 (dk_at dksL_law_25 0 rfl rfl)
theorem dL_law_751 : decode cL_law 751 = .ok (.aload_n 2, 1) := dk_44 (dk_at dksL_law_25 3 rfl rfl)
theorem dL_law_752 : decode cL_law 752 = .ok (.aload_n 0, 1) := dk_42 (dk_at dksL_law_25 4 rfl rfl)
theorem dL_law_753 : decode cL_law 753 = .ok (.iload_n 3, 1) := dk_29 (dk_at dksL_law_25 5 rfl rfl)
theorem dL_law_754 : decode cL_law 754 = .ok (.iconst 1, 1) := dk_4 (dk_at dksL_law_25 6 rfl rfl)
theorem dL_law_755 : decode cL_law 755 = .ok (.iadd, 1) := dk_96 (dk_at dksL_law_25 7 rfl rfl)
theorem dL_law_756 : decode cL_law 756 = .ok (.iaload, 1) := dk_46 (dk_at dksL_law_25 8 rfl rfl)
theorem dL_law_757 : decode cL_law 757 = .ok (.invokevirtual 93, 3) := dk_182 0 93 (dk_at dksL_law_25 9 rfl rfl)
theorem dL_law_760 : decode cL_law 760 = .ok (.if_icmp .eq 746, 3) := dk_159 2 234 (dk_at dksL_law_25 12 rfl rfl)
theorem dL_law_763 : decode cL_law 763 = .ok (.iconst 0, 1) := dk_3 (dk_at dksL_law_25 15 rfl rfl)
theorem dL_law_764 : decode cL_law 764 = .ok (.ireturn, 1) := dk_172 (dk_at dksL_law_25 16 rfl rfl)
theorem dL_law_765 : decode cL_law 765 = .ok (.aload_n 1, 1) := dk_43 (dk_at dksL_law_25 17 rfl rfl)
theorem dL_law_766 : decode cL_law 766 = .ok (.aload_n 0, 1) := dk_42 (dk_at dksL_law_25 18 rfl rfl)
theorem dL_law_767 : decode cL_law 767 = .ok (.iload_n 3, 1) := dk_29 (dk_at dksL_law_25 19 rfl rfl)
theorem dL_law_768 : decode cL_law 768 = .ok (.iconst 1, 1) := dk_4 (dk_at dksL_law_25 20 rfl rfl)
theorem dL_law_769 : decode cL_law 769 = .ok (.iadd, 1) := dk_96 (dk_at dksL_law_25 21 rfl rfl)
theorem dL_law_770 : decode cL_law 770 = .ok (.iaload, 1) := dk_46 (dk_at dksL_law_25 22 rfl rfl)
theorem dL_law_771 : decode cL_law 771 = .ok (.invokevirtual 94, 3) := dk_182 0 94 (dk_at dksL_law_26 0 rfl rfl)
theorem dL_law_774 : decode cL_law 774 = .ok (.aload_n 2, 1) := dk_44 (dk_at dksL_law_26 3 rfl rfl)
theorem dL_law_775 : decode cL_law 775 = .ok (.aload_n 0, 1) := dk_42 (dk_at dksL_law_26 4 rfl rfl)
theorem dL_law_776 : decode cL_law 776 = .ok (.iload_n 3, 1) := dk_29 (dk_at dksL_law_26 5 rfl rfl)
theorem dL_law_777 : decode cL_law 777 = .ok (.iconst 1, 1) := dk_4 (dk_at dksL_law_26 6 rfl rfl)
theorem dL_law_778 : decode cL_law 778 = .ok (.iadd, 1) := dk_96 (dk_at dksL_law_26 7 rfl rfl)
theorem dL_law_779 : decode cL_law 779 = .ok (.iaload, 1) := dk_46 (dk_at dksL_law_26 8 rfl rfl)
theorem dL_law_780 : decode cL_law 780 = .ok (.invokevirtual 97, 3) := dk_182 0 97 (dk_at dksL_law_26 9 rfl rfl)
theorem dL_law_783 : decode cL_law 783 = .ok (.if_icmp .eq 723, 3) := dk_159 2 211 (dk_at dksL_law_26 12 rfl rfl)
theorem dL_law_786 : decode cL_law 786 = .ok (.iconst 0, 1) := dk_3 (dk_at dksL_law_26 15 rfl rfl)
theorem dL_law_787 : decode cL_law 787 = .ok (.ireturn, 1) := dk_172 (dk_at dksL_law_26 16 rfl rfl)
theorem dL_law_788 : decode cL_law 788 = .ok (.aload_n 1, 1) := dk_43 (dk_at dksL_law_26 17 rfl rfl)
theorem dL_law_789 : decode cL_law 789 = .ok (.invokevirtual 98, 3) := dk_182 0 98 (dk_at dksL_law_26 18 rfl rfl)
theorem dL_law_792 : decode cL_law 792 = .ok (.aload_n 2, 1) := dk_44 (dk_at dksL_law_26 21 rfl rfl)
theorem dL_law_793 : decode cL_law 793 = .ok (.invokevirtual 101, 3) := dk_182 0 101 (dk_at dksL_law_27 0 rfl rfl)
theorem dL_law_796 : decode cL_law 796 = .ok (.if_icmp .eq 710, 3) := dk_159 2 198 (dk_at dksL_law_27 3 rfl rfl)
theorem dL_law_799 : decode cL_law 799 = .ok (.iconst 0, 1) := dk_3 (dk_at dksL_law_27 6 rfl rfl)
theorem dL_law_800 : decode cL_law 800 = .ok (.ireturn, 1) := dk_172 (dk_at dksL_law_27 7 rfl rfl)
theorem dL_law_801 : decode cL_law 801 = .ok (.aload_n 1, 1) := dk_43 (dk_at dksL_law_27 8 rfl rfl)
theorem dL_law_802 : decode cL_law 802 = .ok (.invokevirtual 102, 3) := dk_182 0 102 (dk_at dksL_law_27 9 rfl rfl)
theorem dL_law_805 : decode cL_law 805 = .ok (.aload_n 2, 1) := dk_44 (dk_at dksL_law_27 12 rfl rfl)
theorem dL_law_806 : decode cL_law 806 = .ok (.invokevirtual 105, 3) := dk_182 0 105 (dk_at dksL_law_27 13 rfl rfl)
theorem dL_law_809 : decode cL_law 809 = .ok (.if_icmp .eq 697, 3) := dk_159 2 185 (dk_at dksL_law_27 16 rfl rfl)
theorem dL_law_812 : decode cL_law 812 = .ok (.iconst 0, 1) := dk_3 (dk_at dksL_law_27 19 rfl rfl)
theorem dL_law_813 : decode cL_law 813 = .ok (.ireturn, 1) := dk_172 (dk_at dksL_law_27 20 rfl rfl)
theorem dL_law_814 : decode cL_law 814 = .ok (.aload_n 1, 1) := dk_43 (dk_at dksL_law_27 21 rfl rfl)
theorem dL_law_815 : decode cL_law 815 = .ok (.aload_n 0, 1) := dk_42 (dk_at dksL_law_27 22 rfl rfl)
theorem dL_law_816 : decode cL_law 816 = .ok (.iload_n 3, 1) := dk_29 (dk_at dksL_law_27 23 rfl rfl)
theorem dL_law_817 : decode cL_law 817 = .ok (.iconst 1, 1) := dk_4 (dk_at dksL_law_28 0 rfl rfl)
theorem dL_law_818 : decode cL_law 818 = .ok (.iadd, 1) := dk_96 (dk_at dksL_law_28 1 rfl rfl)
theorem dL_law_819 : decode cL_law 819 = .ok (.iaload, 1) := dk_46 (dk_at dksL_law_28 2 rfl rfl)
theorem dL_law_820 : decode cL_law 820 = .ok (.invokevirtual 106, 3) := dk_182 0 106 (dk_at dksL_law_28 3 rfl rfl)
theorem dL_law_823 : decode cL_law 823 = .ok (.aload_n 2, 1) := dk_44 (dk_at dksL_law_28 6 rfl rfl)
theorem dL_law_824 : decode cL_law 824 = .ok (.aload_n 0, 1) := dk_42 (dk_at dksL_law_28 7 rfl rfl)
theorem dL_law_825 : decode cL_law 825 = .ok (.iload_n 3, 1) := dk_29 (dk_at dksL_law_28 8 rfl rfl)
theorem dL_law_826 : decode cL_law 826 = .ok (.iconst 1, 1) := dk_4 (dk_at dksL_law_28 9 rfl rfl)
theorem dL_law_827 : decode cL_law 827 = .ok (.iadd, 1) := dk_96 (dk_at dksL_law_28 10 rfl rfl)
theorem dL_law_828 : decode cL_law 828 = .ok (.iaload, 1) := dk_46 (dk_at dksL_law_28 11 rfl rfl)
theorem dL_law_829 : decode cL_law 829 = .ok (.invokevirtual 109, 3) := dk_182 0 109 (dk_at dksL_law_28 12 rfl rfl)
theorem dL_law_832 : decode cL_law 832 = .ok (.if_icmp .eq 674, 3) := dk_159 2 162 (dk_at dksL_law_28 15 rfl rfl)
theorem dL_law_835 : decode cL_law 835 = .ok (.iconst 0, 1) := dk_3 (dk_at dksL_law_28 18 rfl rfl)
theorem dL_law_836 : decode cL_law 836 = .ok (.ireturn, 1) := dk_172 (dk_at dksL_law_28 19 rfl rfl)
theorem dL_law_837 : decode cL_law 837 = .ok (.aload_n 1, 1) := dk_43 (dk_at dksL_law_28 20 rfl rfl)
theorem dL_law_838 : decode cL_law 838 = .ok (.invokevirtual 110, 3) := dk_182 0 110 (dk_at dksL_law_28 21 rfl rfl)
theorem dL_law_841 : decode cL_law 841 = .ok (.aload_n 2, 1) := dk_44 (dk_at dksL_law_29 0 rfl rfl)
theorem dL_law_842 : decode cL_law 842 = .ok (.invokevirtual 113, 3) := dk_182 0 113 (dk_at dksL_law_29 1 rfl rfl)
theorem dL_law_845 : decode cL_law 845 = .ok (.if_icmp .eq 661, 3) := dk_159 2 149 (dk_at dksL_law_29 4 rfl rfl)
theorem dL_law_848 : decode cL_law 848 = .ok (.iconst 0, 1) := dk_3 (dk_at dksL_law_29 7 rfl rfl)
theorem dL_law_849 : decode cL_law 849 = .ok (.ireturn, 1) := dk_172 (dk_at dksL_law_29 8 rfl rfl)
theorem dL_law_850 : decode cL_law 850 = .ok (.aload_n 1, 1) := dk_43 (dk_at dksL_law_29 9 rfl rfl)
theorem dL_law_851 : decode cL_law 851 = .ok (.invokevirtual 114, 3) := dk_182 0 114 (dk_at dksL_law_29 10 rfl rfl)
theorem dL_law_854 : decode cL_law 854 = .ok (.aload_n 2, 1) := dk_44 (dk_at dksL_law_29 13 rfl rfl)
theorem dL_law_855 : decode cL_law 855 = .ok (.invokevirtual 117, 3) := dk_182 0 117 (dk_at dksL_law_29 14 rfl rfl)
theorem dL_law_858 : decode cL_law 858 = .ok (.if_icmp .eq 648, 3) := dk_159 2 136 (dk_at dksL_law_29 17 rfl rfl)
theorem dL_law_861 : decode cL_law 861 = .ok (.iconst 0, 1) := dk_3 (dk_at dksL_law_29 20 rfl rfl)
theorem dL_law_862 : decode cL_law 862 = .ok (.ireturn, 1) := dk_172 (dk_at dksL_law_29 21 rfl rfl)
theorem dL_law_863 : decode cL_law 863 = .ok (.aload_n 1, 1) := dk_43 (dk_at dksL_law_29 22 rfl rfl)
theorem dL_law_864 : decode cL_law 864 = .ok (.aload_n 0, 1) := dk_42 (dk_at dksL_law_29 23 rfl rfl)
theorem dL_law_865 : decode cL_law 865 = .ok (.iload_n 3, 1) := dk_29 (dk_at dksL_law_30 0 rfl rfl)
theorem dL_law_866 : decode cL_law 866 = .ok (.iconst 1, 1) := dk_4 (dk_at dksL_law_30 1 rfl rfl)
theorem dL_law_867 : decode cL_law 867 = .ok (.iadd, 1) := dk_96 (dk_at dksL_law_30 2 rfl rfl)
theorem dL_law_868 : decode cL_law 868 = .ok (.iaload, 1) := dk_46 (dk_at dksL_law_30 3 rfl rfl)
theorem dL_law_869 : decode cL_law 869 = .ok (.aload_n 0, 1) := dk_42 (dk_at dksL_law_30 4 rfl rfl)
theorem dL_law_870 : decode cL_law 870 = .ok (.iload_n 3, 1) := dk_29 (dk_at dksL_law_30 5 rfl rfl)
theorem dL_law_871 : decode cL_law 871 = .ok (.iconst 2, 1) := dk_5 (dk_at dksL_law_30 6 rfl rfl)
theorem dL_law_872 : decode cL_law 872 = .ok (.iadd, 1) := dk_96 (dk_at dksL_law_30 7 rfl rfl)
theorem dL_law_873 : decode cL_law 873 = .ok (.iaload, 1) := dk_46 (dk_at dksL_law_30 8 rfl rfl)
theorem dL_law_874 : decode cL_law 874 = .ok (.aload_n 0, 1) := dk_42 (dk_at dksL_law_30 9 rfl rfl)
theorem dL_law_875 : decode cL_law 875 = .ok (.iload_n 3, 1) := dk_29 (dk_at dksL_law_30 10 rfl rfl)
theorem dL_law_876 : decode cL_law 876 = .ok (.iconst 3, 1) := dk_6 (dk_at dksL_law_30 11 rfl rfl)
theorem dL_law_877 : decode cL_law 877 = .ok (.iadd, 1) := dk_96 (dk_at dksL_law_30 12 rfl rfl)
theorem dL_law_878 : decode cL_law 878 = .ok (.iaload, 1) := dk_46 (dk_at dksL_law_30 13 rfl rfl)
theorem dL_law_879 : decode cL_law 879 = .ok (.invokevirtual 118, 3) := dk_182 0 118 (dk_at dksL_law_30 14 rfl rfl)
theorem dL_law_882 : decode cL_law 882 = .ok (.aload_n 2, 1) := dk_44 (dk_at dksL_law_30 17 rfl rfl)
theorem dL_law_883 : decode cL_law 883 = .ok (.aload_n 0, 1) := dk_42 (dk_at dksL_law_30 18 rfl rfl)
theorem dL_law_884 : decode cL_law 884 = .ok (.iload_n 3, 1) := dk_29 (dk_at dksL_law_30 19 rfl rfl)
theorem dL_law_885 : decode cL_law 885 = .ok (.iconst 1, 1) := dk_4 (dk_at dksL_law_30 20 rfl rfl)
theorem dL_law_886 : decode cL_law 886 = .ok (.iadd, 1) := dk_96 (dk_at dksL_law_30 21 rfl rfl)
theorem dL_law_887 : decode cL_law 887 = .ok (.iaload, 1) := dk_46 (dk_at dksL_law_30 22 rfl rfl)
theorem dL_law_888 : decode cL_law 888 = .ok (.aload_n 0, 1) := dk_42 (dk_at dksL_law_30 23 rfl rfl)
theorem dL_law_889 : decode cL_law 889 = .ok (.iload_n 3, 1) := dk_29 (dk_at dksL_law_31 0 rfl rfl)
theorem dL_law_890 : decode cL_law 890 = .ok (.iconst 2, 1) := dk_5 (dk_at dksL_law_31 1 rfl rfl)
theorem dL_law_891 : decode cL_law 891 = .ok (.iadd, 1) := dk_96 (dk_at dksL_law_31 2 rfl rfl)
theorem dL_law_892 : decode cL_law 892 = .ok (.iaload, 1) := dk_46 (dk_at dksL_law_31 3 rfl rfl)
theorem dL_law_893 : decode cL_law 893 = .ok (.aload_n 0, 1) := dk_42 (dk_at dksL_law_31 4 rfl rfl)
theorem dL_law_894 : decode cL_law 894 = .ok (.iload_n 3, 1) := dk_29 (dk_at dksL_law_31 5 rfl rfl)
theorem dL_law_895 : decode cL_law 895 = .ok (.iconst 3, 1) := dk_6 (dk_at dksL_law_31 6 rfl rfl)
theorem dL_law_896 : decode cL_law 896 = .ok (.iadd, 1) := dk_96 (dk_at dksL_law_31 7 rfl rfl)
theorem dL_law_897 : decode cL_law 897 = .ok (.iaload, 1) := dk_46 (dk_at dksL_law_31 8 rfl rfl)
theorem dL_law_898 : decode cL_law 898 = .ok (.invokevirtual 121, 3) := dk_182 0 121 (dk_at dksL_law_31 9 rfl rfl)
theorem dL_law_901 : decode cL_law 901 = .ok (.if_icmp .eq 605, 3) := dk_159 2 93 (dk_at dksL_law_31 12 rfl rfl)
theorem dL_law_904 : decode cL_law 904 = .ok (.iconst 0, 1) := dk_3 (dk_at dksL_law_31 15 rfl rfl)
theorem dL_law_905 : decode cL_law 905 = .ok (.ireturn, 1) := dk_172 (dk_at dksL_law_31 16 rfl rfl)
theorem dL_law_906 : decode cL_law 906 = .ok (.aload_n 1, 1) := dk_43 (dk_at dksL_law_31 17 rfl rfl)
theorem dL_law_907 : decode cL_law 907 = .ok (.aload_n 0, 1) := dk_42 (dk_at dksL_law_31 18 rfl rfl)
theorem dL_law_908 : decode cL_law 908 = .ok (.iload_n 3, 1) := dk_29 (dk_at dksL_law_31 19 rfl rfl)
theorem dL_law_909 : decode cL_law 909 = .ok (.iconst 1, 1) := dk_4 (dk_at dksL_law_31 20 rfl rfl)
theorem dL_law_910 : decode cL_law 910 = .ok (.iadd, 1) := dk_96 (dk_at dksL_law_31 21 rfl rfl)
theorem dL_law_911 : decode cL_law 911 = .ok (.iaload, 1) := dk_46 (dk_at dksL_law_31 22 rfl rfl)
theorem dL_law_912 : decode cL_law 912 = .ok (.invokevirtual 122, 3) := dk_182 0 122 (dk_at dksL_law_32 0 rfl rfl)
theorem dL_law_915 : decode cL_law 915 = .ok (.aload_n 2, 1) := dk_44 (dk_at dksL_law_32 3 rfl rfl)
theorem dL_law_916 : decode cL_law 916 = .ok (.aload_n 0, 1) := dk_42 (dk_at dksL_law_32 4 rfl rfl)
theorem dL_law_917 : decode cL_law 917 = .ok (.iload_n 3, 1) := dk_29 (dk_at dksL_law_32 5 rfl rfl)
theorem dL_law_918 : decode cL_law 918 = .ok (.iconst 1, 1) := dk_4 (dk_at dksL_law_32 6 rfl rfl)
theorem dL_law_919 : decode cL_law 919 = .ok (.iadd, 1) := dk_96 (dk_at dksL_law_32 7 rfl rfl)
theorem dL_law_920 : decode cL_law 920 = .ok (.iaload, 1) := dk_46 (dk_at dksL_law_32 8 rfl rfl)
theorem dL_law_921 : decode cL_law 921 = .ok (.invokevirtual 125, 3) := dk_182 0 125 (dk_at dksL_law_32 9 rfl rfl)
theorem dL_law_924 : decode cL_law 924 = .ok (.if_icmp .eq 582, 3) := dk_159 2 70 (dk_at dksL_law_32 12 rfl rfl)
theorem dL_law_927 : decode cL_law 927 = .ok (.iconst 0, 1) := dk_3 (dk_at dksL_law_32 15 rfl rfl)
theorem dL_law_928 : decode cL_law 928 = .ok (.ireturn, 1) := dk_172 (dk_at dksL_law_32 16 rfl rfl)
theorem dL_law_929 : decode cL_law 929 = .ok (.aload_n 1, 1) := dk_43 (dk_at dksL_law_32 17 rfl rfl)
theorem dL_law_930 : decode cL_law 930 = .ok (.aload_n 0, 1) := dk_42 (dk_at dksL_law_32 18 rfl rfl)
theorem dL_law_931 : decode cL_law 931 = .ok (.iload_n 3, 1) := dk_29 (dk_at dksL_law_32 19 rfl rfl)
theorem dL_law_932 : decode cL_law 932 = .ok (.iconst 1, 1) := dk_4 (dk_at dksL_law_32 20 rfl rfl)
theorem dL_law_933 : decode cL_law 933 = .ok (.iadd, 1) := dk_96 (dk_at dksL_law_32 21 rfl rfl)
theorem dL_law_934 : decode cL_law 934 = .ok (.iaload, 1) := dk_46 (dk_at dksL_law_32 22 rfl rfl)
theorem dL_law_935 : decode cL_law 935 = .ok (.aload_n 0, 1) := dk_42 (dk_at dksL_law_32 23 rfl rfl)
theorem dL_law_936 : decode cL_law 936 = .ok (.iload_n 3, 1) := dk_29 (dk_at dksL_law_33 0 rfl rfl)
theorem dL_law_937 : decode cL_law 937 = .ok (.iconst 2, 1) := dk_5 (dk_at dksL_law_33 1 rfl rfl)
theorem dL_law_938 : decode cL_law 938 = .ok (.iadd, 1) := dk_96 (dk_at dksL_law_33 2 rfl rfl)
theorem dL_law_939 : decode cL_law 939 = .ok (.iaload, 1) := dk_46 (dk_at dksL_law_33 3 rfl rfl)
theorem dL_law_940 : decode cL_law 940 = .ok (.invokevirtual 126, 3) := dk_182 0 126 (dk_at dksL_law_33 4 rfl rfl)
theorem dL_law_943 : decode cL_law 943 = .ok (.aload_n 2, 1) := dk_44 (dk_at dksL_law_33 7 rfl rfl)
theorem dL_law_944 : decode cL_law 944 = .ok (.aload_n 0, 1) := dk_42 (dk_at dksL_law_33 8 rfl rfl)
theorem dL_law_945 : decode cL_law 945 = .ok (.iload_n 3, 1) := dk_29 (dk_at dksL_law_33 9 rfl rfl)
theorem dL_law_946 : decode cL_law 946 = .ok (.iconst 1, 1) := dk_4 (dk_at dksL_law_33 10 rfl rfl)
theorem dL_law_947 : decode cL_law 947 = .ok (.iadd, 1) := dk_96 (dk_at dksL_law_33 11 rfl rfl)
theorem dL_law_948 : decode cL_law 948 = .ok (.iaload, 1) := dk_46 (dk_at dksL_law_33 12 rfl rfl)
theorem dL_law_949 : decode cL_law 949 = .ok (.aload_n 0, 1) := dk_42 (dk_at dksL_law_33 13 rfl rfl)
theorem dL_law_950 : decode cL_law 950 = .ok (.iload_n 3, 1) := dk_29 (dk_at dksL_law_33 14 rfl rfl)
theorem dL_law_951 : decode cL_law 951 = .ok (.iconst 2, 1) := dk_5 (dk_at dksL_law_33 15 rfl rfl)
theorem dL_law_952 : decode cL_law 952 = .ok (.iadd, 1) := dk_96 (dk_at dksL_law_33 16 rfl rfl)
theorem dL_law_953 : decode cL_law 953 = .ok (.iaload, 1) := dk_46 (dk_at dksL_law_33 17 rfl rfl)
theorem dL_law_954 : decode cL_law 954 = .ok (.invokevirtual 129, 3) := dk_182 0 129 (dk_at dksL_law_33 18 rfl rfl)
theorem dL_law_957 : decode cL_law 957 = .ok (.if_icmp .eq 549, 3) := dk_159 2 37 (dk_at dksL_law_33 21 rfl rfl)
theorem dL_law_960 : decode cL_law 960 = .ok (.iconst 0, 1) := dk_3 (dk_at dksL_law_34 0 rfl rfl)
theorem dL_law_961 : decode cL_law 961 = .ok (.ireturn, 1) := dk_172 (dk_at dksL_law_34 1 rfl rfl)
theorem dL_law_962 : decode cL_law 962 = .ok (.aload_n 1, 1) := dk_43 (dk_at dksL_law_34 2 rfl rfl)
theorem dL_law_963 : decode cL_law 963 = .ok (.aload_n 0, 1) := dk_42 (dk_at dksL_law_34 3 rfl rfl)
theorem dL_law_964 : decode cL_law 964 = .ok (.iload_n 3, 1) := dk_29 (dk_at dksL_law_34 4 rfl rfl)
theorem dL_law_965 : decode cL_law 965 = .ok (.iconst 1, 1) := dk_4 (dk_at dksL_law_34 5 rfl rfl)
theorem dL_law_966 : decode cL_law 966 = .ok (.iadd, 1) := dk_96 (dk_at dksL_law_34 6 rfl rfl)
theorem dL_law_967 : decode cL_law 967 = .ok (.iaload, 1) := dk_46 (dk_at dksL_law_34 7 rfl rfl)
theorem dL_law_968 : decode cL_law 968 = .ok (.invokevirtual 130, 3) := dk_182 0 130 (dk_at dksL_law_34 8 rfl rfl)
theorem dL_law_971 : decode cL_law 971 = .ok (.aload_n 2, 1) := dk_44 (dk_at dksL_law_34 11 rfl rfl)
theorem dL_law_972 : decode cL_law 972 = .ok (.aload_n 0, 1) := dk_42 (dk_at dksL_law_34 12 rfl rfl)
theorem dL_law_973 : decode cL_law 973 = .ok (.iload_n 3, 1) := dk_29 (dk_at dksL_law_34 13 rfl rfl)
theorem dL_law_974 : decode cL_law 974 = .ok (.iconst 1, 1) := dk_4 (dk_at dksL_law_34 14 rfl rfl)
theorem dL_law_975 : decode cL_law 975 = .ok (.iadd, 1) := dk_96 (dk_at dksL_law_34 15 rfl rfl)
theorem dL_law_976 : decode cL_law 976 = .ok (.iaload, 1) := dk_46 (dk_at dksL_law_34 16 rfl rfl)
theorem dL_law_977 : decode cL_law 977 = .ok (.invokevirtual 133, 3) := dk_182 0 133 (dk_at dksL_law_34 17 rfl rfl)
theorem dL_law_980 : decode cL_law 980 = .ok (.if_icmp .eq 526, 3) := dk_159 2 14 (dk_at dksL_law_34 20 rfl rfl)
theorem dL_law_983 : decode cL_law 983 = .ok (.iconst 0, 1) := dk_3 (dk_at dksL_law_34 23 rfl rfl)
theorem dL_law_984 : decode cL_law 984 = .ok (.ireturn, 1) := dk_172 (dk_at dksL_law_35 0 rfl rfl)
theorem dL_law_985 : decode cL_law 985 = .ok (.aload_n 1, 1) := dk_43 (dk_at dksL_law_35 1 rfl rfl)
theorem dL_law_986 : decode cL_law 986 = .ok (.invokevirtual 134, 3) := dk_182 0 134 (dk_at dksL_law_35 2 rfl rfl)
theorem dL_law_989 : decode cL_law 989 = .ok (.aload_n 2, 1) := dk_44 (dk_at dksL_law_35 5 rfl rfl)
theorem dL_law_990 : decode cL_law 990 = .ok (.invokevirtual 137, 3) := dk_182 0 137 (dk_at dksL_law_35 6 rfl rfl)
theorem dL_law_993 : decode cL_law 993 = .ok (.if_icmp .eq 513, 3) := dk_159 2 1 (dk_at dksL_law_35 9 rfl rfl)
theorem dL_law_996 : decode cL_law 996 = .ok (.iconst 0, 1) := dk_3 (dk_at dksL_law_35 12 rfl rfl)
theorem dL_law_997 : decode cL_law 997 = .ok (.ireturn, 1) := dk_172 (dk_at dksL_law_35 13 rfl rfl)
theorem dL_law_998 : decode cL_law 998 = .ok (.aload_n 1, 1) := dk_43 (dk_at dksL_law_35 14 rfl rfl)
theorem dL_law_999 : decode cL_law 999 = .ok (.aload_n 0, 1) := dk_42 (dk_at dksL_law_35 15 rfl rfl)
theorem dL_law_1000 : decode cL_law 1000 = .ok (.iload_n 3, 1) := dk_29 (dk_at dksL_law_35 16 rfl rfl)
theorem dL_law_1001 : decode cL_law 1001 = .ok (.iconst 1, 1) := dk_4 (dk_at dksL_law_35 17 rfl rfl)
theorem dL_law_1002 : decode cL_law 1002 = .ok (.iadd, 1) := dk_96 (dk_at dksL_law_35 18 rfl rfl)
theorem dL_law_1003 : decode cL_law 1003 = .ok (.iaload, 1) := dk_46 (dk_at dksL_law_35 19 rfl rfl)
theorem dL_law_1004 : decode cL_law 1004 = .ok (.aload_n 0, 1) := dk_42 (dk_at dksL_law_35 20 rfl rfl)
theorem dL_law_1005 : decode cL_law 1005 = .ok (.iload_n 3, 1) := dk_29 (dk_at dksL_law_35 21 rfl rfl)
theorem dL_law_1006 : decode cL_law 1006 = .ok (.iconst 2, 1) := dk_5 (dk_at dksL_law_35 22 rfl rfl)
theorem dL_law_1007 : decode cL_law 1007 = .ok (.iadd, 1) := dk_96 (dk_at dksL_law_35 23 rfl rfl)
theorem dL_law_1008 : decode cL_law 1008 = .ok (.iaload, 1) := dk_46 (dk_at dksL_law_36 0 rfl rfl)
theorem dL_law_1009 : decode cL_law 1009 = .ok (.invokevirtual 138, 3) := dk_182 0 138 (dk_at dksL_law_36 1 rfl rfl)
theorem dL_law_1012 : decode cL_law 1012 = .ok (.aload_n 2, 1) := dk_44 (dk_at dksL_law_36 4 rfl rfl)
theorem dL_law_1013 : decode cL_law 1013 = .ok (.aload_n 0, 1) := dk_42 (dk_at dksL_law_36 5 rfl rfl)
theorem dL_law_1014 : decode cL_law 1014 = .ok (.iload_n 3, 1) := dk_29 (dk_at dksL_law_36 6 rfl rfl)
theorem dL_law_1015 : decode cL_law 1015 = .ok (.iconst 1, 1) := dk_4 (dk_at dksL_law_36 7 rfl rfl)
theorem dL_law_1016 : decode cL_law 1016 = .ok (.iadd, 1) := dk_96 (dk_at dksL_law_36 8 rfl rfl)
theorem dL_law_1017 : decode cL_law 1017 = .ok (.iaload, 1) := dk_46 (dk_at dksL_law_36 9 rfl rfl)
theorem dL_law_1018 : decode cL_law 1018 = .ok (.aload_n 0, 1) := dk_42 (dk_at dksL_law_36 10 rfl rfl)
theorem dL_law_1019 : decode cL_law 1019 = .ok (.iload_n 3, 1) := dk_29 (dk_at dksL_law_36 11 rfl rfl)
theorem dL_law_1020 : decode cL_law 1020 = .ok (.iconst 2, 1) := dk_5 (dk_at dksL_law_36 12 rfl rfl)
theorem dL_law_1021 : decode cL_law 1021 = .ok (.iadd, 1) := dk_96 (dk_at dksL_law_36 13 rfl rfl)
theorem dL_law_1022 : decode cL_law 1022 = .ok (.iaload, 1) := dk_46 (dk_at dksL_law_36 14 rfl rfl)
theorem dL_law_1023 : decode cL_law 1023 = .ok (.invokevirtual 142, 3) := dk_182 0 142 (dk_at dksL_law_36 15 rfl rfl)
theorem dL_law_1026 : decode cL_law 1026 = .ok (.lcmp, 1) := dk_148 (dk_at dksL_law_36 18 rfl rfl)
theorem dL_law_1027 : decode cL_law 1027 = .ok (.ifCond .eq 479, 3) := dk_153 1 223 (dk_at dksL_law_36 19 rfl rfl)
theorem dL_law_1030 : decode cL_law 1030 = .ok (.iconst 0, 1) := dk_3 (dk_at dksL_law_36 22 rfl rfl)
theorem dL_law_1031 : decode cL_law 1031 = .ok (.ireturn, 1) := dk_172 (dk_at dksL_law_36 23 rfl rfl)
theorem dL_law_1032 : decode cL_law 1032 = .ok (.aload_n 1, 1) := dk_43 (dk_at dksL_law_37 0 rfl rfl)
theorem dL_law_1033 : decode cL_law 1033 = .ok (.aload_n 0, 1) := dk_42 (dk_at dksL_law_37 1 rfl rfl)
theorem dL_law_1034 : decode cL_law 1034 = .ok (.iload_n 3, 1) := dk_29 (dk_at dksL_law_37 2 rfl rfl)
theorem dL_law_1035 : decode cL_law 1035 = .ok (.iconst 1, 1) := dk_4 (dk_at dksL_law_37 3 rfl rfl)
theorem dL_law_1036 : decode cL_law 1036 = .ok (.iadd, 1) := dk_96 (dk_at dksL_law_37 4 rfl rfl)
theorem dL_law_1037 : decode cL_law 1037 = .ok (.iaload, 1) := dk_46 (dk_at dksL_law_37 5 rfl rfl)
theorem dL_law_1038 : decode cL_law 1038 = .ok (.aload_n 0, 1) := dk_42 (dk_at dksL_law_37 6 rfl rfl)
theorem dL_law_1039 : decode cL_law 1039 = .ok (.iload_n 3, 1) := dk_29 (dk_at dksL_law_37 7 rfl rfl)
theorem dL_law_1040 : decode cL_law 1040 = .ok (.iconst 2, 1) := dk_5 (dk_at dksL_law_37 8 rfl rfl)
theorem dL_law_1041 : decode cL_law 1041 = .ok (.iadd, 1) := dk_96 (dk_at dksL_law_37 9 rfl rfl)
theorem dL_law_1042 : decode cL_law 1042 = .ok (.iaload, 1) := dk_46 (dk_at dksL_law_37 10 rfl rfl)
theorem dL_law_1043 : decode cL_law 1043 = .ok (.invokevirtual 143, 3) := dk_182 0 143 (dk_at dksL_law_37 11 rfl rfl)
theorem dL_law_1046 : decode cL_law 1046 = .ok (.aload_n 2, 1) := dk_44 (dk_at dksL_law_37 14 rfl rfl)
theorem dL_law_1047 : decode cL_law 1047 = .ok (.aload_n 0, 1) := dk_42 (dk_at dksL_law_37 15 rfl rfl)
theorem dL_law_1048 : decode cL_law 1048 = .ok (.iload_n 3, 1) := dk_29 (dk_at dksL_law_37 16 rfl rfl)
theorem dL_law_1049 : decode cL_law 1049 = .ok (.iconst 1, 1) := dk_4 (dk_at dksL_law_37 17 rfl rfl)
theorem dL_law_1050 : decode cL_law 1050 = .ok (.iadd, 1) := dk_96 (dk_at dksL_law_37 18 rfl rfl)
theorem dL_law_1051 : decode cL_law 1051 = .ok (.iaload, 1) := dk_46 (dk_at dksL_law_37 19 rfl rfl)
theorem dL_law_1052 : decode cL_law 1052 = .ok (.aload_n 0, 1) := dk_42 (dk_at dksL_law_37 20 rfl rfl)
theorem dL_law_1053 : decode cL_law 1053 = .ok (.iload_n 3, 1) := dk_29 (dk_at dksL_law_37 21 rfl rfl)
theorem dL_law_1054 : decode cL_law 1054 = .ok (.iconst 2, 1) := dk_5 (dk_at dksL_law_37 22 rfl rfl)
theorem dL_law_1055 : decode cL_law 1055 = .ok (.iadd, 1) := dk_96 (dk_at dksL_law_37 23 rfl rfl)
theorem dL_law_1056 : decode cL_law 1056 = .ok (.iaload, 1) := dk_46 (dk_at dksL_law_38 0 rfl rfl)
theorem dL_law_1057 : decode cL_law 1057 = .ok (.invokevirtual 146, 3) := dk_182 0 146 (dk_at dksL_law_38 1 rfl rfl)
theorem dL_law_1060 : decode cL_law 1060 = .ok (.lcmp, 1) := dk_148 (dk_at dksL_law_38 4 rfl rfl)
theorem dL_law_1061 : decode cL_law 1061 = .ok (.ifCond .eq 445, 3) := dk_153 1 189 (dk_at dksL_law_38 5 rfl rfl)
theorem dL_law_1064 : decode cL_law 1064 = .ok (.iconst 0, 1) := dk_3 (dk_at dksL_law_38 8 rfl rfl)
theorem dL_law_1065 : decode cL_law 1065 = .ok (.ireturn, 1) := dk_172 (dk_at dksL_law_38 9 rfl rfl)
theorem dL_law_1066 : decode cL_law 1066 = .ok (.aload_n 1, 1) := dk_43 (dk_at dksL_law_38 10 rfl rfl)
theorem dL_law_1067 : decode cL_law 1067 = .ok (.aload_n 0, 1) := dk_42 (dk_at dksL_law_38 11 rfl rfl)
theorem dL_law_1068 : decode cL_law 1068 = .ok (.iload_n 3, 1) := dk_29 (dk_at dksL_law_38 12 rfl rfl)
theorem dL_law_1069 : decode cL_law 1069 = .ok (.iconst 1, 1) := dk_4 (dk_at dksL_law_38 13 rfl rfl)
theorem dL_law_1070 : decode cL_law 1070 = .ok (.iadd, 1) := dk_96 (dk_at dksL_law_38 14 rfl rfl)
theorem dL_law_1071 : decode cL_law 1071 = .ok (.iaload, 1) := dk_46 (dk_at dksL_law_38 15 rfl rfl)
theorem dL_law_1072 : decode cL_law 1072 = .ok (.aload_n 0, 1) := dk_42 (dk_at dksL_law_38 16 rfl rfl)
theorem dL_law_1073 : decode cL_law 1073 = .ok (.iload_n 3, 1) := dk_29 (dk_at dksL_law_38 17 rfl rfl)
theorem dL_law_1074 : decode cL_law 1074 = .ok (.iconst 2, 1) := dk_5 (dk_at dksL_law_38 18 rfl rfl)
theorem dL_law_1075 : decode cL_law 1075 = .ok (.iadd, 1) := dk_96 (dk_at dksL_law_38 19 rfl rfl)
theorem dL_law_1076 : decode cL_law 1076 = .ok (.iaload, 1) := dk_46 (dk_at dksL_law_38 20 rfl rfl)
theorem dL_law_1077 : decode cL_law 1077 = .ok (.invokevirtual 147, 3) := dk_182 0 147 (dk_at dksL_law_38 21 rfl rfl)
theorem dL_law_1080 : decode cL_law 1080 = .ok (.aload_n 2, 1) := dk_44 (dk_at dksL_law_39 0 rfl rfl)
theorem dL_law_1081 : decode cL_law 1081 = .ok (.aload_n 0, 1) := dk_42 (dk_at dksL_law_39 1 rfl rfl)
theorem dL_law_1082 : decode cL_law 1082 = .ok (.iload_n 3, 1) := dk_29 (dk_at dksL_law_39 2 rfl rfl)
theorem dL_law_1083 : decode cL_law 1083 = .ok (.iconst 1, 1) := dk_4 (dk_at dksL_law_39 3 rfl rfl)
theorem dL_law_1084 : decode cL_law 1084 = .ok (.iadd, 1) := dk_96 (dk_at dksL_law_39 4 rfl rfl)
theorem dL_law_1085 : decode cL_law 1085 = .ok (.iaload, 1) := dk_46 (dk_at dksL_law_39 5 rfl rfl)
theorem dL_law_1086 : decode cL_law 1086 = .ok (.aload_n 0, 1) := dk_42 (dk_at dksL_law_39 6 rfl rfl)
theorem dL_law_1087 : decode cL_law 1087 = .ok (.iload_n 3, 1) := dk_29 (dk_at dksL_law_39 7 rfl rfl)
theorem dL_law_1088 : decode cL_law 1088 = .ok (.iconst 2, 1) := dk_5 (dk_at dksL_law_39 8 rfl rfl)
theorem dL_law_1089 : decode cL_law 1089 = .ok (.iadd, 1) := dk_96 (dk_at dksL_law_39 9 rfl rfl)
theorem dL_law_1090 : decode cL_law 1090 = .ok (.iaload, 1) := dk_46 (dk_at dksL_law_39 10 rfl rfl)
theorem dL_law_1091 : decode cL_law 1091 = .ok (.invokevirtual 150, 3) := dk_182 0 150 (dk_at dksL_law_39 11 rfl rfl)
theorem dL_law_1094 : decode cL_law 1094 = .ok (.if_icmp .eq 412, 3) := dk_159 1 156 (dk_at dksL_law_39 14 rfl rfl)
theorem dL_law_1097 : decode cL_law 1097 = .ok (.iconst 0, 1) := dk_3 (dk_at dksL_law_39 17 rfl rfl)
theorem dL_law_1098 : decode cL_law 1098 = .ok (.ireturn, 1) := dk_172 (dk_at dksL_law_39 18 rfl rfl)
theorem dL_law_1099 : decode cL_law 1099 = .ok (.aload_n 1, 1) := dk_43 (dk_at dksL_law_39 19 rfl rfl)
theorem dL_law_1100 : decode cL_law 1100 = .ok (.invokevirtual 151, 3) := dk_182 0 151 (dk_at dksL_law_39 20 rfl rfl)
theorem dL_law_1103 : decode cL_law 1103 = .ok (.aload_n 2, 1) := dk_44 (dk_at dksL_law_39 23 rfl rfl)
theorem dL_law_1104 : decode cL_law 1104 = .ok (.invokevirtual 154, 3) := dk_182 0 154 (dk_at dksL_law_40 0 rfl rfl)
theorem dL_law_1107 : decode cL_law 1107 = .ok (.if_icmp .eq 399, 3) := dk_159 1 143 (dk_at dksL_law_40 3 rfl rfl)
theorem dL_law_1110 : decode cL_law 1110 = .ok (.iconst 0, 1) := dk_3 (dk_at dksL_law_40 6 rfl rfl)
theorem dL_law_1111 : decode cL_law 1111 = .ok (.ireturn, 1) := dk_172 (dk_at dksL_law_40 7 rfl rfl)
theorem dL_law_1112 : decode cL_law 1112 = .ok (.aload_n 1, 1) := dk_43 (dk_at dksL_law_40 8 rfl rfl)
theorem dL_law_1113 : decode cL_law 1113 = .ok (.aload_n 0, 1) := dk_42 (dk_at dksL_law_40 9 rfl rfl)
theorem dL_law_1114 : decode cL_law 1114 = .ok (.iload_n 3, 1) := dk_29 (dk_at dksL_law_40 10 rfl rfl)
theorem dL_law_1115 : decode cL_law 1115 = .ok (.iconst 1, 1) := dk_4 (dk_at dksL_law_40 11 rfl rfl)
theorem dL_law_1116 : decode cL_law 1116 = .ok (.iadd, 1) := dk_96 (dk_at dksL_law_40 12 rfl rfl)
theorem dL_law_1117 : decode cL_law 1117 = .ok (.iaload, 1) := dk_46 (dk_at dksL_law_40 13 rfl rfl)
theorem dL_law_1118 : decode cL_law 1118 = .ok (.aload_n 0, 1) := dk_42 (dk_at dksL_law_40 14 rfl rfl)
theorem dL_law_1119 : decode cL_law 1119 = .ok (.iload_n 3, 1) := dk_29 (dk_at dksL_law_40 15 rfl rfl)
theorem dL_law_1120 : decode cL_law 1120 = .ok (.iconst 2, 1) := dk_5 (dk_at dksL_law_40 16 rfl rfl)
theorem dL_law_1121 : decode cL_law 1121 = .ok (.iadd, 1) := dk_96 (dk_at dksL_law_40 17 rfl rfl)
theorem dL_law_1122 : decode cL_law 1122 = .ok (.iaload, 1) := dk_46 (dk_at dksL_law_40 18 rfl rfl)
theorem dL_law_1123 : decode cL_law 1123 = .ok (.invokevirtual 155, 3) := dk_182 0 155 (dk_at dksL_law_40 19 rfl rfl)
theorem dL_law_1126 : decode cL_law 1126 = .ok (.aload_n 2, 1) := dk_44 (dk_at dksL_law_40 22 rfl rfl)
theorem dL_law_1127 : decode cL_law 1127 = .ok (.aload_n 0, 1) := dk_42 (dk_at dksL_law_40 23 rfl rfl)
theorem dL_law_1128 : decode cL_law 1128 = .ok (.iload_n 3, 1) := dk_29 (dk_at dksL_law_41 0 rfl rfl)
theorem dL_law_1129 : decode cL_law 1129 = .ok (.iconst 1, 1) := dk_4 (dk_at dksL_law_41 1 rfl rfl)
theorem dL_law_1130 : decode cL_law 1130 = .ok (.iadd, 1) := dk_96 (dk_at dksL_law_41 2 rfl rfl)
theorem dL_law_1131 : decode cL_law 1131 = .ok (.iaload, 1) := dk_46 (dk_at dksL_law_41 3 rfl rfl)
theorem dL_law_1132 : decode cL_law 1132 = .ok (.aload_n 0, 1) := dk_42 (dk_at dksL_law_41 4 rfl rfl)
theorem dL_law_1133 : decode cL_law 1133 = .ok (.iload_n 3, 1) := dk_29 (dk_at dksL_law_41 5 rfl rfl)
theorem dL_law_1134 : decode cL_law 1134 = .ok (.iconst 2, 1) := dk_5 (dk_at dksL_law_41 6 rfl rfl)
theorem dL_law_1135 : decode cL_law 1135 = .ok (.iadd, 1) := dk_96 (dk_at dksL_law_41 7 rfl rfl)
theorem dL_law_1136 : decode cL_law 1136 = .ok (.iaload, 1) := dk_46 (dk_at dksL_law_41 8 rfl rfl)
theorem dL_law_1137 : decode cL_law 1137 = .ok (.invokevirtual 158, 3) := dk_182 0 158 (dk_at dksL_law_41 9 rfl rfl)
theorem dL_law_1140 : decode cL_law 1140 = .ok (.if_icmp .eq 366, 3) := dk_159 1 110 (dk_at dksL_law_41 12 rfl rfl)
theorem dL_law_1143 : decode cL_law 1143 = .ok (.iconst 0, 1) := dk_3 (dk_at dksL_law_41 15 rfl rfl)
theorem dL_law_1144 : decode cL_law 1144 = .ok (.ireturn, 1) := dk_172 (dk_at dksL_law_41 16 rfl rfl)
theorem dL_law_1145 : decode cL_law 1145 = .ok (.aload_n 1, 1) := dk_43 (dk_at dksL_law_41 17 rfl rfl)
theorem dL_law_1146 : decode cL_law 1146 = .ok (.invokevirtual 159, 3) := dk_182 0 159 (dk_at dksL_law_41 18 rfl rfl)
theorem dL_law_1149 : decode cL_law 1149 = .ok (.aload_n 2, 1) := dk_44 (dk_at dksL_law_41 21 rfl rfl)
theorem dL_law_1150 : decode cL_law 1150 = .ok (.invokevirtual 162, 3) := dk_182 0 162 (dk_at dksL_law_42 0 rfl rfl)
theorem dL_law_1153 : decode cL_law 1153 = .ok (.if_icmp .eq 353, 3) := dk_159 1 97 (dk_at dksL_law_42 3 rfl rfl)
theorem dL_law_1156 : decode cL_law 1156 = .ok (.iconst 0, 1) := dk_3 (dk_at dksL_law_42 6 rfl rfl)
theorem dL_law_1157 : decode cL_law 1157 = .ok (.ireturn, 1) := dk_172 (dk_at dksL_law_42 7 rfl rfl)
theorem dL_law_1158 : decode cL_law 1158 = .ok (.aload_n 1, 1) := dk_43 (dk_at dksL_law_42 8 rfl rfl)
theorem dL_law_1159 : decode cL_law 1159 = .ok (.invokevirtual 163, 3) := dk_182 0 163 (dk_at dksL_law_42 9 rfl rfl)
theorem dL_law_1162 : decode cL_law 1162 = .ok (.aload_n 2, 1) := dk_44 (dk_at dksL_law_42 12 rfl rfl)
theorem dL_law_1163 : decode cL_law 1163 = .ok (.invokevirtual 166, 3) := dk_182 0 166 (dk_at dksL_law_42 13 rfl rfl)
theorem dL_law_1166 : decode cL_law 1166 = .ok (.if_icmp .eq 340, 3) := dk_159 1 84 (dk_at dksL_law_42 16 rfl rfl)
theorem dL_law_1169 : decode cL_law 1169 = .ok (.iconst 0, 1) := dk_3 (dk_at dksL_law_42 19 rfl rfl)
theorem dL_law_1170 : decode cL_law 1170 = .ok (.ireturn, 1) := dk_172 (dk_at dksL_law_42 20 rfl rfl)
theorem dL_law_1171 : decode cL_law 1171 = .ok (.aload_n 1, 1) := dk_43 (dk_at dksL_law_42 21 rfl rfl)
theorem dL_law_1172 : decode cL_law 1172 = .ok (.aload_n 0, 1) := dk_42 (dk_at dksL_law_42 22 rfl rfl)
theorem dL_law_1173 : decode cL_law 1173 = .ok (.iload_n 3, 1) := dk_29 (dk_at dksL_law_42 23 rfl rfl)
theorem dL_law_1174 : decode cL_law 1174 = .ok (.iconst 1, 1) := dk_4 (dk_at dksL_law_43 0 rfl rfl)
theorem dL_law_1175 : decode cL_law 1175 = .ok (.iadd, 1) := dk_96 (dk_at dksL_law_43 1 rfl rfl)
theorem dL_law_1176 : decode cL_law 1176 = .ok (.iaload, 1) := dk_46 (dk_at dksL_law_43 2 rfl rfl)
theorem dL_law_1177 : decode cL_law 1177 = .ok (.aload_n 0, 1) := dk_42 (dk_at dksL_law_43 3 rfl rfl)
theorem dL_law_1178 : decode cL_law 1178 = .ok (.iload_n 3, 1) := dk_29 (dk_at dksL_law_43 4 rfl rfl)
theorem dL_law_1179 : decode cL_law 1179 = .ok (.iconst 2, 1) := dk_5 (dk_at dksL_law_43 5 rfl rfl)
theorem dL_law_1180 : decode cL_law 1180 = .ok (.iadd, 1) := dk_96 (dk_at dksL_law_43 6 rfl rfl)
theorem dL_law_1181 : decode cL_law 1181 = .ok (.iaload, 1) := dk_46 (dk_at dksL_law_43 7 rfl rfl)
theorem dL_law_1182 : decode cL_law 1182 = .ok (.aload_n 0, 1) := dk_42 (dk_at dksL_law_43 8 rfl rfl)
theorem dL_law_1183 : decode cL_law 1183 = .ok (.iload_n 3, 1) := dk_29 (dk_at dksL_law_43 9 rfl rfl)
theorem dL_law_1184 : decode cL_law 1184 = .ok (.iconst 3, 1) := dk_6 (dk_at dksL_law_43 10 rfl rfl)
theorem dL_law_1185 : decode cL_law 1185 = .ok (.iadd, 1) := dk_96 (dk_at dksL_law_43 11 rfl rfl)
theorem dL_law_1186 : decode cL_law 1186 = .ok (.iaload, 1) := dk_46 (dk_at dksL_law_43 12 rfl rfl)
theorem dL_law_1187 : decode cL_law 1187 = .ok (.invokevirtual 167, 3) := dk_182 0 167 (dk_at dksL_law_43 13 rfl rfl)
theorem dL_law_1190 : decode cL_law 1190 = .ok (.aload_n 2, 1) := dk_44 (dk_at dksL_law_43 16 rfl rfl)
theorem dL_law_1191 : decode cL_law 1191 = .ok (.aload_n 0, 1) := dk_42 (dk_at dksL_law_43 17 rfl rfl)
theorem dL_law_1192 : decode cL_law 1192 = .ok (.iload_n 3, 1) := dk_29 (dk_at dksL_law_43 18 rfl rfl)
theorem dL_law_1193 : decode cL_law 1193 = .ok (.iconst 1, 1) := dk_4 (dk_at dksL_law_43 19 rfl rfl)
theorem dL_law_1194 : decode cL_law 1194 = .ok (.iadd, 1) := dk_96 (dk_at dksL_law_43 20 rfl rfl)
theorem dL_law_1195 : decode cL_law 1195 = .ok (.iaload, 1) := dk_46 (dk_at dksL_law_43 21 rfl rfl)
theorem dL_law_1196 : decode cL_law 1196 = .ok (.aload_n 0, 1) := dk_42 (dk_at dksL_law_43 22 rfl rfl)
theorem dL_law_1197 : decode cL_law 1197 = .ok (.iload_n 3, 1) := dk_29 (dk_at dksL_law_43 23 rfl rfl)
theorem dL_law_1198 : decode cL_law 1198 = .ok (.iconst 2, 1) := dk_5 (dk_at dksL_law_44 0 rfl rfl)
theorem dL_law_1199 : decode cL_law 1199 = .ok (.iadd, 1) := dk_96 (dk_at dksL_law_44 1 rfl rfl)
theorem dL_law_1200 : decode cL_law 1200 = .ok (.iaload, 1) := dk_46 (dk_at dksL_law_44 2 rfl rfl)
theorem dL_law_1201 : decode cL_law 1201 = .ok (.aload_n 0, 1) := dk_42 (dk_at dksL_law_44 3 rfl rfl)
theorem dL_law_1202 : decode cL_law 1202 = .ok (.iload_n 3, 1) := dk_29 (dk_at dksL_law_44 4 rfl rfl)
theorem dL_law_1203 : decode cL_law 1203 = .ok (.iconst 3, 1) := dk_6 (dk_at dksL_law_44 5 rfl rfl)
theorem dL_law_1204 : decode cL_law 1204 = .ok (.iadd, 1) := dk_96 (dk_at dksL_law_44 6 rfl rfl)
theorem dL_law_1205 : decode cL_law 1205 = .ok (.iaload, 1) := dk_46 (dk_at dksL_law_44 7 rfl rfl)
theorem dL_law_1206 : decode cL_law 1206 = .ok (.invokevirtual 170, 3) := dk_182 0 170 (dk_at dksL_law_44 8 rfl rfl)
theorem dL_law_1209 : decode cL_law 1209 = .ok (.if_icmp .eq 297, 3) := dk_159 1 41 (dk_at dksL_law_44 11 rfl rfl)
theorem dL_law_1212 : decode cL_law 1212 = .ok (.iconst 0, 1) := dk_3 (dk_at dksL_law_44 14 rfl rfl)
theorem dL_law_1213 : decode cL_law 1213 = .ok (.ireturn, 1) := dk_172 (dk_at dksL_law_44 15 rfl rfl)
theorem dL_law_1214 : decode cL_law 1214 = .ok (.aload_n 1, 1) := dk_43 (dk_at dksL_law_44 16 rfl rfl)
theorem dL_law_1215 : decode cL_law 1215 = .ok (.aload_n 0, 1) := dk_42 (dk_at dksL_law_44 17 rfl rfl)
theorem dL_law_1216 : decode cL_law 1216 = .ok (.iload_n 3, 1) := dk_29 (dk_at dksL_law_44 18 rfl rfl)
theorem dL_law_1217 : decode cL_law 1217 = .ok (.iconst 1, 1) := dk_4 (dk_at dksL_law_44 19 rfl rfl)
theorem dL_law_1218 : decode cL_law 1218 = .ok (.iadd, 1) := dk_96 (dk_at dksL_law_44 20 rfl rfl)
theorem dL_law_1219 : decode cL_law 1219 = .ok (.iaload, 1) := dk_46 (dk_at dksL_law_44 21 rfl rfl)
theorem dL_law_1220 : decode cL_law 1220 = .ok (.invokevirtual 171, 3) := dk_182 0 171 (dk_at dksL_law_45 0 rfl rfl)
theorem dL_law_1223 : decode cL_law 1223 = .ok (.aload_n 2, 1) := dk_44 (dk_at dksL_law_45 3 rfl rfl)
theorem dL_law_1224 : decode cL_law 1224 = .ok (.aload_n 0, 1) := dk_42 (dk_at dksL_law_45 4 rfl rfl)
theorem dL_law_1225 : decode cL_law 1225 = .ok (.iload_n 3, 1) := dk_29 (dk_at dksL_law_45 5 rfl rfl)
theorem dL_law_1226 : decode cL_law 1226 = .ok (.iconst 1, 1) := dk_4 (dk_at dksL_law_45 6 rfl rfl)
theorem dL_law_1227 : decode cL_law 1227 = .ok (.iadd, 1) := dk_96 (dk_at dksL_law_45 7 rfl rfl)
theorem dL_law_1228 : decode cL_law 1228 = .ok (.iaload, 1) := dk_46 (dk_at dksL_law_45 8 rfl rfl)
theorem dL_law_1229 : decode cL_law 1229 = .ok (.invokevirtual 174, 3) := dk_182 0 174 (dk_at dksL_law_45 9 rfl rfl)
theorem dL_law_1232 : decode cL_law 1232 = .ok (.if_icmp .eq 274, 3) := dk_159 1 18 (dk_at dksL_law_45 12 rfl rfl)
theorem dL_law_1235 : decode cL_law 1235 = .ok (.iconst 0, 1) := dk_3 (dk_at dksL_law_45 15 rfl rfl)
theorem dL_law_1236 : decode cL_law 1236 = .ok (.ireturn, 1) := dk_172 (dk_at dksL_law_45 16 rfl rfl)
theorem dL_law_1237 : decode cL_law 1237 = .ok (.aload_n 1, 1) := dk_43 (dk_at dksL_law_45 17 rfl rfl)
theorem dL_law_1238 : decode cL_law 1238 = .ok (.aload_n 0, 1) := dk_42 (dk_at dksL_law_45 18 rfl rfl)
theorem dL_law_1239 : decode cL_law 1239 = .ok (.iload_n 3, 1) := dk_29 (dk_at dksL_law_45 19 rfl rfl)
theorem dL_law_1240 : decode cL_law 1240 = .ok (.iconst 1, 1) := dk_4 (dk_at dksL_law_45 20 rfl rfl)
theorem dL_law_1241 : decode cL_law 1241 = .ok (.iadd, 1) := dk_96 (dk_at dksL_law_45 21 rfl rfl)
theorem dL_law_1242 : decode cL_law 1242 = .ok (.iaload, 1) := dk_46 (dk_at dksL_law_45 22 rfl rfl)
theorem dL_law_1243 : decode cL_law 1243 = .ok (.aload_n 0, 1) := dk_42 (dk_at dksL_law_45 23 rfl rfl)
theorem dL_law_1244 : decode cL_law 1244 = .ok (.iload_n 3, 1) := dk_29 (dk_at dksL_law_46 0 rfl rfl)
theorem dL_law_1245 : decode cL_law 1245 = .ok (.iconst 2, 1) := dk_5 (dk_at dksL_law_46 1 rfl rfl)
theorem dL_law_1246 : decode cL_law 1246 = .ok (.iadd, 1) := dk_96 (dk_at dksL_law_46 2 rfl rfl)
theorem dL_law_1247 : decode cL_law 1247 = .ok (.iaload, 1) := dk_46 (dk_at dksL_law_46 3 rfl rfl)
theorem dL_law_1248 : decode cL_law 1248 = .ok (.invokevirtual 175, 3) := dk_182 0 175 (dk_at dksL_law_46 4 rfl rfl)
theorem dL_law_1251 : decode cL_law 1251 = .ok (.aload_n 2, 1) := dk_44 (dk_at dksL_law_46 7 rfl rfl)
theorem dL_law_1252 : decode cL_law 1252 = .ok (.aload_n 0, 1) := dk_42 (dk_at dksL_law_46 8 rfl rfl)
theorem dL_law_1253 : decode cL_law 1253 = .ok (.iload_n 3, 1) := dk_29 (dk_at dksL_law_46 9 rfl rfl)
theorem dL_law_1254 : decode cL_law 1254 = .ok (.iconst 1, 1) := dk_4 (dk_at dksL_law_46 10 rfl rfl)
theorem dL_law_1255 : decode cL_law 1255 = .ok (.iadd, 1) := dk_96 (dk_at dksL_law_46 11 rfl rfl)
theorem dL_law_1256 : decode cL_law 1256 = .ok (.iaload, 1) := dk_46 (dk_at dksL_law_46 12 rfl rfl)
theorem dL_law_1257 : decode cL_law 1257 = .ok (.aload_n 0, 1) := dk_42 (dk_at dksL_law_46 13 rfl rfl)
theorem dL_law_1258 : decode cL_law 1258 = .ok (.iload_n 3, 1) := dk_29 (dk_at dksL_law_46 14 rfl rfl)
theorem dL_law_1259 : decode cL_law 1259 = .ok (.iconst 2, 1) := dk_5 (dk_at dksL_law_46 15 rfl rfl)
theorem dL_law_1260 : decode cL_law 1260 = .ok (.iadd, 1) := dk_96 (dk_at dksL_law_46 16 rfl rfl)
theorem dL_law_1261 : decode cL_law 1261 = .ok (.iaload, 1) := dk_46 (dk_at dksL_law_46 17 rfl rfl)
theorem dL_law_1262 : decode cL_law 1262 = .ok (.invokevirtual 178, 3) := dk_182 0 178 (dk_at dksL_law_46 18 rfl rfl)
theorem dL_law_1265 : decode cL_law 1265 = .ok (.if_icmp .eq 241, 3) := dk_159 0 241 (dk_at dksL_law_46 21 rfl rfl)
theorem dL_law_1268 : decode cL_law 1268 = .ok (.iconst 0, 1) := dk_3 (dk_at dksL_law_47 0 rfl rfl)
theorem dL_law_1269 : decode cL_law 1269 = .ok (.ireturn, 1) := dk_172 (dk_at dksL_law_47 1 rfl rfl)
theorem dL_law_1270 : decode cL_law 1270 = .ok (.aload_n 1, 1) := dk_43 (dk_at dksL_law_47 2 rfl rfl)
theorem dL_law_1271 : decode cL_law 1271 = .ok (.aload_n 0, 1) := dk_42 (dk_at dksL_law_47 3 rfl rfl)
theorem dL_law_1272 : decode cL_law 1272 = .ok (.iload_n 3, 1) := dk_29 (dk_at dksL_law_47 4 rfl rfl)
theorem dL_law_1273 : decode cL_law 1273 = .ok (.iconst 1, 1) := dk_4 (dk_at dksL_law_47 5 rfl rfl)
theorem dL_law_1274 : decode cL_law 1274 = .ok (.iadd, 1) := dk_96 (dk_at dksL_law_47 6 rfl rfl)
theorem dL_law_1275 : decode cL_law 1275 = .ok (.iaload, 1) := dk_46 (dk_at dksL_law_47 7 rfl rfl)
theorem dL_law_1276 : decode cL_law 1276 = .ok (.invokevirtual 179, 3) := dk_182 0 179 (dk_at dksL_law_47 8 rfl rfl)
theorem dL_law_1279 : decode cL_law 1279 = .ok (.aload_n 2, 1) := dk_44 (dk_at dksL_law_47 11 rfl rfl)
theorem dL_law_1280 : decode cL_law 1280 = .ok (.aload_n 0, 1) := dk_42 (dk_at dksL_law_47 12 rfl rfl)
theorem dL_law_1281 : decode cL_law 1281 = .ok (.iload_n 3, 1) := dk_29 (dk_at dksL_law_47 13 rfl rfl)
theorem dL_law_1282 : decode cL_law 1282 = .ok (.iconst 1, 1) := dk_4 (dk_at dksL_law_47 14 rfl rfl)
theorem dL_law_1283 : decode cL_law 1283 = .ok (.iadd, 1) := dk_96 (dk_at dksL_law_47 15 rfl rfl)
theorem dL_law_1284 : decode cL_law 1284 = .ok (.iaload, 1) := dk_46 (dk_at dksL_law_47 16 rfl rfl)
theorem dL_law_1285 : decode cL_law 1285 = .ok (.invokevirtual 182, 3) := dk_182 0 182 (dk_at dksL_law_47 17 rfl rfl)
theorem dL_law_1288 : decode cL_law 1288 = .ok (.if_icmp .eq 218, 3) := dk_159 0 218 (dk_at dksL_law_47 20 rfl rfl)
theorem dL_law_1291 : decode cL_law 1291 = .ok (.iconst 0, 1) := dk_3 (dk_at dksL_law_47 23 rfl rfl)
theorem dL_law_1292 : decode cL_law 1292 = .ok (.ireturn, 1) := dk_172 (dk_at dksL_law_48 0 rfl rfl)
theorem dL_law_1293 : decode cL_law 1293 = .ok (.aload_n 1, 1) := dk_43 (dk_at dksL_law_48 1 rfl rfl)
theorem dL_law_1294 : decode cL_law 1294 = .ok (.aload_n 0, 1) := dk_42 (dk_at dksL_law_48 2 rfl rfl)
theorem dL_law_1295 : decode cL_law 1295 = .ok (.iload_n 3, 1) := dk_29 (dk_at dksL_law_48 3 rfl rfl)
theorem dL_law_1296 : decode cL_law 1296 = .ok (.iconst 1, 1) := dk_4 (dk_at dksL_law_48 4 rfl rfl)
theorem dL_law_1297 : decode cL_law 1297 = .ok (.iadd, 1) := dk_96 (dk_at dksL_law_48 5 rfl rfl)
theorem dL_law_1298 : decode cL_law 1298 = .ok (.iaload, 1) := dk_46 (dk_at dksL_law_48 6 rfl rfl)
theorem dL_law_1299 : decode cL_law 1299 = .ok (.aload_n 0, 1) := dk_42 (dk_at dksL_law_48 7 rfl rfl)
theorem dL_law_1300 : decode cL_law 1300 = .ok (.iload_n 3, 1) := dk_29 (dk_at dksL_law_48 8 rfl rfl)
theorem dL_law_1301 : decode cL_law 1301 = .ok (.iconst 2, 1) := dk_5 (dk_at dksL_law_48 9 rfl rfl)
theorem dL_law_1302 : decode cL_law 1302 = .ok (.iadd, 1) := dk_96 (dk_at dksL_law_48 10 rfl rfl)
theorem dL_law_1303 : decode cL_law 1303 = .ok (.iaload, 1) := dk_46 (dk_at dksL_law_48 11 rfl rfl)
theorem dL_law_1304 : decode cL_law 1304 = .ok (.aload_n 0, 1) := dk_42 (dk_at dksL_law_48 12 rfl rfl)
theorem dL_law_1305 : decode cL_law 1305 = .ok (.iload_n 3, 1) := dk_29 (dk_at dksL_law_48 13 rfl rfl)
theorem dL_law_1306 : decode cL_law 1306 = .ok (.iconst 3, 1) := dk_6 (dk_at dksL_law_48 14 rfl rfl)
theorem dL_law_1307 : decode cL_law 1307 = .ok (.iadd, 1) := dk_96 (dk_at dksL_law_48 15 rfl rfl)
theorem dL_law_1308 : decode cL_law 1308 = .ok (.iaload, 1) := dk_46 (dk_at dksL_law_48 16 rfl rfl)
theorem dL_law_1309 : decode cL_law 1309 = .ok (.invokevirtual 183, 3) := dk_182 0 183 (dk_at dksL_law_48 17 rfl rfl)
theorem dL_law_1312 : decode cL_law 1312 = .ok (.aload_n 2, 1) := dk_44 (dk_at dksL_law_48 20 rfl rfl)
theorem dL_law_1313 : decode cL_law 1313 = .ok (.aload_n 0, 1) := dk_42 (dk_at dksL_law_48 21 rfl rfl)
theorem dL_law_1314 : decode cL_law 1314 = .ok (.iload_n 3, 1) := dk_29 (dk_at dksL_law_48 22 rfl rfl)
theorem dL_law_1315 : decode cL_law 1315 = .ok (.iconst 1, 1) := dk_4 (dk_at dksL_law_48 23 rfl rfl)
theorem dL_law_1316 : decode cL_law 1316 = .ok (.iadd, 1) := dk_96 (dk_at dksL_law_49 0 rfl rfl)
theorem dL_law_1317 : decode cL_law 1317 = .ok (.iaload, 1) := dk_46 (dk_at dksL_law_49 1 rfl rfl)
theorem dL_law_1318 : decode cL_law 1318 = .ok (.aload_n 0, 1) := dk_42 (dk_at dksL_law_49 2 rfl rfl)
theorem dL_law_1319 : decode cL_law 1319 = .ok (.iload_n 3, 1) := dk_29 (dk_at dksL_law_49 3 rfl rfl)
theorem dL_law_1320 : decode cL_law 1320 = .ok (.iconst 2, 1) := dk_5 (dk_at dksL_law_49 4 rfl rfl)
theorem dL_law_1321 : decode cL_law 1321 = .ok (.iadd, 1) := dk_96 (dk_at dksL_law_49 5 rfl rfl)
theorem dL_law_1322 : decode cL_law 1322 = .ok (.iaload, 1) := dk_46 (dk_at dksL_law_49 6 rfl rfl)
theorem dL_law_1323 : decode cL_law 1323 = .ok (.aload_n 0, 1) := dk_42 (dk_at dksL_law_49 7 rfl rfl)
theorem dL_law_1324 : decode cL_law 1324 = .ok (.iload_n 3, 1) := dk_29 (dk_at dksL_law_49 8 rfl rfl)
theorem dL_law_1325 : decode cL_law 1325 = .ok (.iconst 3, 1) := dk_6 (dk_at dksL_law_49 9 rfl rfl)
theorem dL_law_1326 : decode cL_law 1326 = .ok (.iadd, 1) := dk_96 (dk_at dksL_law_49 10 rfl rfl)
theorem dL_law_1327 : decode cL_law 1327 = .ok (.iaload, 1) := dk_46 (dk_at dksL_law_49 11 rfl rfl)
theorem dL_law_1328 : decode cL_law 1328 = .ok (.invokevirtual 186, 3) := dk_182 0 186 (dk_at dksL_law_49 12 rfl rfl)
theorem dL_law_1331 : decode cL_law 1331 = .ok (.if_icmp .eq 175, 3) := dk_159 0 175 (dk_at dksL_law_49 15 rfl rfl)
theorem dL_law_1334 : decode cL_law 1334 = .ok (.iconst 0, 1) := dk_3 (dk_at dksL_law_49 18 rfl rfl)
theorem dL_law_1335 : decode cL_law 1335 = .ok (.ireturn, 1) := dk_172 (dk_at dksL_law_49 19 rfl rfl)
theorem dL_law_1336 : decode cL_law 1336 = .ok (.aload_n 1, 1) := dk_43 (dk_at dksL_law_49 20 rfl rfl)
theorem dL_law_1337 : decode cL_law 1337 = .ok (.aload_n 0, 1) := dk_42 (dk_at dksL_law_49 21 rfl rfl)
theorem dL_law_1338 : decode cL_law 1338 = .ok (.iload_n 3, 1) := dk_29 (dk_at dksL_law_49 22 rfl rfl)
theorem dL_law_1339 : decode cL_law 1339 = .ok (.iconst 1, 1) := dk_4 (dk_at dksL_law_49 23 rfl rfl)
theorem dL_law_1340 : decode cL_law 1340 = .ok (.iadd, 1) := dk_96 (dk_at dksL_law_50 0 rfl rfl)
theorem dL_law_1341 : decode cL_law 1341 = .ok (.iaload, 1) := dk_46 (dk_at dksL_law_50 1 rfl rfl)
theorem dL_law_1342 : decode cL_law 1342 = .ok (.aload_n 0, 1) := dk_42 (dk_at dksL_law_50 2 rfl rfl)
theorem dL_law_1343 : decode cL_law 1343 = .ok (.iload_n 3, 1) := dk_29 (dk_at dksL_law_50 3 rfl rfl)
theorem dL_law_1344 : decode cL_law 1344 = .ok (.iconst 2, 1) := dk_5 (dk_at dksL_law_50 4 rfl rfl)
theorem dL_law_1345 : decode cL_law 1345 = .ok (.iadd, 1) := dk_96 (dk_at dksL_law_50 5 rfl rfl)
theorem dL_law_1346 : decode cL_law 1346 = .ok (.iaload, 1) := dk_46 (dk_at dksL_law_50 6 rfl rfl)
theorem dL_law_1347 : decode cL_law 1347 = .ok (.aload_n 0, 1) := dk_42 (dk_at dksL_law_50 7 rfl rfl)
theorem dL_law_1348 : decode cL_law 1348 = .ok (.iload_n 3, 1) := dk_29 (dk_at dksL_law_50 8 rfl rfl)
theorem dL_law_1349 : decode cL_law 1349 = .ok (.iconst 3, 1) := dk_6 (dk_at dksL_law_50 9 rfl rfl)
theorem dL_law_1350 : decode cL_law 1350 = .ok (.iadd, 1) := dk_96 (dk_at dksL_law_50 10 rfl rfl)
theorem dL_law_1351 : decode cL_law 1351 = .ok (.iaload, 1) := dk_46 (dk_at dksL_law_50 11 rfl rfl)
theorem dL_law_1352 : decode cL_law 1352 = .ok (.i2l, 1) := dk_133 (dk_at dksL_law_50 12 rfl rfl)
theorem dL_law_1353 : decode cL_law 1353 = .ok (.bipush 32, 2) := dk_16 32 (dk_at dksL_law_50 13 rfl rfl)
theorem dL_law_1355 : decode cL_law 1355 = .ok (.lshl, 1) := dk_121 (dk_at dksL_law_50 15 rfl rfl)
theorem dL_law_1356 : decode cL_law 1356 = .ok (.aload_n 0, 1) := dk_42 (dk_at dksL_law_50 16 rfl rfl)
theorem dL_law_1357 : decode cL_law 1357 = .ok (.iload_n 3, 1) := dk_29 (dk_at dksL_law_50 17 rfl rfl)
theorem dL_law_1358 : decode cL_law 1358 = .ok (.iconst 4, 1) := dk_7 (dk_at dksL_law_50 18 rfl rfl)
theorem dL_law_1359 : decode cL_law 1359 = .ok (.iadd, 1) := dk_96 (dk_at dksL_law_50 19 rfl rfl)
theorem dL_law_1360 : decode cL_law 1360 = .ok (.iaload, 1) := dk_46 (dk_at dksL_law_50 20 rfl rfl)
theorem dL_law_1361 : decode cL_law 1361 = .ok (.i2l, 1) := dk_133 (dk_at dksL_law_50 21 rfl rfl)
theorem dL_law_1362 : decode cL_law 1362 = .ok (.ldc2_w 187, 3) := dk_20 0 187 (dk_at dksL_law_51 0 rfl rfl)
theorem dL_law_1365 : decode cL_law 1365 = .ok (.land, 1) := dk_127 (dk_at dksL_law_51 3 rfl rfl)
theorem dL_law_1366 : decode cL_law 1366 = .ok (.lor, 1) := dk_129 (dk_at dksL_law_51 4 rfl rfl)
theorem dL_law_1367 : decode cL_law 1367 = .ok (.invokevirtual 189, 3) := dk_182 0 189 (dk_at dksL_law_51 5 rfl rfl)
theorem dL_law_1370 : decode cL_law 1370 = .ok (.aload_n 2, 1) := dk_44 (dk_at dksL_law_51 8 rfl rfl)
theorem dL_law_1371 : decode cL_law 1371 = .ok (.aload_n 0, 1) := dk_42 (dk_at dksL_law_51 9 rfl rfl)
theorem dL_law_1372 : decode cL_law 1372 = .ok (.iload_n 3, 1) := dk_29 (dk_at dksL_law_51 10 rfl rfl)
theorem dL_law_1373 : decode cL_law 1373 = .ok (.iconst 1, 1) := dk_4 (dk_at dksL_law_51 11 rfl rfl)
theorem dL_law_1374 : decode cL_law 1374 = .ok (.iadd, 1) := dk_96 (dk_at dksL_law_51 12 rfl rfl)
theorem dL_law_1375 : decode cL_law 1375 = .ok (.iaload, 1) := dk_46 (dk_at dksL_law_51 13 rfl rfl)
theorem dL_law_1376 : decode cL_law 1376 = .ok (.aload_n 0, 1) := dk_42 (dk_at dksL_law_51 14 rfl rfl)
theorem dL_law_1377 : decode cL_law 1377 = .ok (.iload_n 3, 1) := dk_29 (dk_at dksL_law_51 15 rfl rfl)
theorem dL_law_1378 : decode cL_law 1378 = .ok (.iconst 2, 1) := dk_5 (dk_at dksL_law_51 16 rfl rfl)
theorem dL_law_1379 : decode cL_law 1379 = .ok (.iadd, 1) := dk_96 (dk_at dksL_law_51 17 rfl rfl)
theorem dL_law_1380 : decode cL_law 1380 = .ok (.iaload, 1) := dk_46 (dk_at dksL_law_51 18 rfl rfl)
theorem dL_law_1381 : decode cL_law 1381 = .ok (.aload_n 0, 1) := dk_42 (dk_at dksL_law_51 19 rfl rfl)
theorem dL_law_1382 : decode cL_law 1382 = .ok (.iload_n 3, 1) := dk_29 (dk_at dksL_law_51 20 rfl rfl)
theorem dL_law_1383 : decode cL_law 1383 = .ok (.iconst 3, 1) := dk_6 (dk_at dksL_law_51 21 rfl rfl)
theorem dL_law_1384 : decode cL_law 1384 = .ok (.iadd, 1) := dk_96 (dk_at dksL_law_51 22 rfl rfl)
theorem dL_law_1385 : decode cL_law 1385 = .ok (.iaload, 1) := dk_46 (dk_at dksL_law_51 23 rfl rfl)
theorem dL_law_1386 : decode cL_law 1386 = .ok (.i2l, 1) := dk_133 (dk_at dksL_law_52 0 rfl rfl)
theorem dL_law_1387 : decode cL_law 1387 = .ok (.bipush 32, 2) := dk_16 32 (dk_at dksL_law_52 1 rfl rfl)
theorem dL_law_1389 : decode cL_law 1389 = .ok (.lshl, 1) := dk_121 (dk_at dksL_law_52 3 rfl rfl)
theorem dL_law_1390 : decode cL_law 1390 = .ok (.aload_n 0, 1) := dk_42 (dk_at dksL_law_52 4 rfl rfl)
theorem dL_law_1391 : decode cL_law 1391 = .ok (.iload_n 3, 1) := dk_29 (dk_at dksL_law_52 5 rfl rfl)
theorem dL_law_1392 : decode cL_law 1392 = .ok (.iconst 4, 1) := dk_7 (dk_at dksL_law_52 6 rfl rfl)
theorem dL_law_1393 : decode cL_law 1393 = .ok (.iadd, 1) := dk_96 (dk_at dksL_law_52 7 rfl rfl)
theorem dL_law_1394 : decode cL_law 1394 = .ok (.iaload, 1) := dk_46 (dk_at dksL_law_52 8 rfl rfl)
theorem dL_law_1395 : decode cL_law 1395 = .ok (.i2l, 1) := dk_133 (dk_at dksL_law_52 9 rfl rfl)
theorem dL_law_1396 : decode cL_law 1396 = .ok (.ldc2_w 187, 3) := dk_20 0 187 (dk_at dksL_law_52 10 rfl rfl)
theorem dL_law_1399 : decode cL_law 1399 = .ok (.land, 1) := dk_127 (dk_at dksL_law_52 13 rfl rfl)
theorem dL_law_1400 : decode cL_law 1400 = .ok (.lor, 1) := dk_129 (dk_at dksL_law_52 14 rfl rfl)
theorem dL_law_1401 : decode cL_law 1401 = .ok (.invokevirtual 193, 3) := dk_182 0 193 (dk_at dksL_law_52 15 rfl rfl)
theorem dL_law_1404 : decode cL_law 1404 = .ok (.if_icmp .eq 102, 3) := dk_159 0 102 (dk_at dksL_law_52 18 rfl rfl)
theorem dL_law_1407 : decode cL_law 1407 = .ok (.iconst 0, 1) := dk_3 (dk_at dksL_law_52 21 rfl rfl)
theorem dL_law_1408 : decode cL_law 1408 = .ok (.ireturn, 1) := dk_172 (dk_at dksL_law_52 22 rfl rfl)
theorem dL_law_1409 : decode cL_law 1409 = .ok (.aload_n 1, 1) := dk_43 (dk_at dksL_law_52 23 rfl rfl)
theorem dL_law_1410 : decode cL_law 1410 = .ok (.aload_n 0, 1) := dk_42 (dk_at dksL_law_53 0 rfl rfl)
theorem dL_law_1411 : decode cL_law 1411 = .ok (.iload_n 3, 1) := dk_29 (dk_at dksL_law_53 1 rfl rfl)
theorem dL_law_1412 : decode cL_law 1412 = .ok (.iconst 1, 1) := dk_4 (dk_at dksL_law_53 2 rfl rfl)
theorem dL_law_1413 : decode cL_law 1413 = .ok (.iadd, 1) := dk_96 (dk_at dksL_law_53 3 rfl rfl)
theorem dL_law_1414 : decode cL_law 1414 = .ok (.iaload, 1) := dk_46 (dk_at dksL_law_53 4 rfl rfl)
theorem dL_law_1415 : decode cL_law 1415 = .ok (.aload_n 0, 1) := dk_42 (dk_at dksL_law_53 5 rfl rfl)
theorem dL_law_1416 : decode cL_law 1416 = .ok (.iload_n 3, 1) := dk_29 (dk_at dksL_law_53 6 rfl rfl)
theorem dL_law_1417 : decode cL_law 1417 = .ok (.iconst 2, 1) := dk_5 (dk_at dksL_law_53 7 rfl rfl)
theorem dL_law_1418 : decode cL_law 1418 = .ok (.iadd, 1) := dk_96 (dk_at dksL_law_53 8 rfl rfl)
theorem dL_law_1419 : decode cL_law 1419 = .ok (.iaload, 1) := dk_46 (dk_at dksL_law_53 9 rfl rfl)
theorem dL_law_1420 : decode cL_law 1420 = .ok (.invokevirtual 194, 3) := dk_182 0 194 (dk_at dksL_law_53 10 rfl rfl)
theorem dL_law_1423 : decode cL_law 1423 = .ok (.aload_n 2, 1) := dk_44 (dk_at dksL_law_53 13 rfl rfl)
theorem dL_law_1424 : decode cL_law 1424 = .ok (.aload_n 0, 1) := dk_42 (dk_at dksL_law_53 14 rfl rfl)
theorem dL_law_1425 : decode cL_law 1425 = .ok (.iload_n 3, 1) := dk_29 (dk_at dksL_law_53 15 rfl rfl)
theorem dL_law_1426 : decode cL_law 1426 = .ok (.iconst 1, 1) := dk_4 (dk_at dksL_law_53 16 rfl rfl)
theorem dL_law_1427 : decode cL_law 1427 = .ok (.iadd, 1) := dk_96 (dk_at dksL_law_53 17 rfl rfl)
theorem dL_law_1428 : decode cL_law 1428 = .ok (.iaload, 1) := dk_46 (dk_at dksL_law_53 18 rfl rfl)
theorem dL_law_1429 : decode cL_law 1429 = .ok (.aload_n 0, 1) := dk_42 (dk_at dksL_law_53 19 rfl rfl)
theorem dL_law_1430 : decode cL_law 1430 = .ok (.iload_n 3, 1) := dk_29 (dk_at dksL_law_53 20 rfl rfl)
theorem dL_law_1431 : decode cL_law 1431 = .ok (.iconst 2, 1) := dk_5 (dk_at dksL_law_53 21 rfl rfl)
theorem dL_law_1432 : decode cL_law 1432 = .ok (.iadd, 1) := dk_96 (dk_at dksL_law_53 22 rfl rfl)
theorem dL_law_1433 : decode cL_law 1433 = .ok (.iaload, 1) := dk_46 (dk_at dksL_law_53 23 rfl rfl)
theorem dL_law_1434 : decode cL_law 1434 = .ok (.invokevirtual 197, 3) := dk_182 0 197 (dk_at dksL_law_54 0 rfl rfl)
theorem dL_law_1437 : decode cL_law 1437 = .ok (.lcmp, 1) := dk_148 (dk_at dksL_law_54 3 rfl rfl)
theorem dL_law_1438 : decode cL_law 1438 = .ok (.ifCond .eq 68, 3) := dk_153 0 68 (dk_at dksL_law_54 4 rfl rfl)
theorem dL_law_1441 : decode cL_law 1441 = .ok (.iconst 0, 1) := dk_3 (dk_at dksL_law_54 7 rfl rfl)
theorem dL_law_1442 : decode cL_law 1442 = .ok (.ireturn, 1) := dk_172 (dk_at dksL_law_54 8 rfl rfl)
theorem dL_law_1443 : decode cL_law 1443 = .ok (.aload_n 1, 1) := dk_43 (dk_at dksL_law_54 9 rfl rfl)
theorem dL_law_1444 : decode cL_law 1444 = .ok (.aload_n 0, 1) := dk_42 (dk_at dksL_law_54 10 rfl rfl)
theorem dL_law_1445 : decode cL_law 1445 = .ok (.iload_n 3, 1) := dk_29 (dk_at dksL_law_54 11 rfl rfl)
theorem dL_law_1446 : decode cL_law 1446 = .ok (.iconst 1, 1) := dk_4 (dk_at dksL_law_54 12 rfl rfl)
theorem dL_law_1447 : decode cL_law 1447 = .ok (.iadd, 1) := dk_96 (dk_at dksL_law_54 13 rfl rfl)
theorem dL_law_1448 : decode cL_law 1448 = .ok (.iaload, 1) := dk_46 (dk_at dksL_law_54 14 rfl rfl)
theorem dL_law_1449 : decode cL_law 1449 = .ok (.aload_n 0, 1) := dk_42 (dk_at dksL_law_54 15 rfl rfl)
theorem dL_law_1450 : decode cL_law 1450 = .ok (.iload_n 3, 1) := dk_29 (dk_at dksL_law_54 16 rfl rfl)
theorem dL_law_1451 : decode cL_law 1451 = .ok (.iconst 2, 1) := dk_5 (dk_at dksL_law_54 17 rfl rfl)
theorem dL_law_1452 : decode cL_law 1452 = .ok (.iadd, 1) := dk_96 (dk_at dksL_law_54 18 rfl rfl)
theorem dL_law_1453 : decode cL_law 1453 = .ok (.iaload, 1) := dk_46 (dk_at dksL_law_54 19 rfl rfl)
theorem dL_law_1454 : decode cL_law 1454 = .ok (.aload_n 0, 1) := dk_42 (dk_at dksL_law_54 20 rfl rfl)
theorem dL_law_1455 : decode cL_law 1455 = .ok (.iload_n 3, 1) := dk_29 (dk_at dksL_law_54 21 rfl rfl)
theorem dL_law_1456 : decode cL_law 1456 = .ok (.iconst 3, 1) := dk_6 (dk_at dksL_law_54 22 rfl rfl)
theorem dL_law_1457 : decode cL_law 1457 = .ok (.iadd, 1) := dk_96 (dk_at dksL_law_54 23 rfl rfl)
theorem dL_law_1458 : decode cL_law 1458 = .ok (.iaload, 1) := dk_46 (dk_at dksL_law_55 0 rfl rfl)
theorem dL_law_1459 : decode cL_law 1459 = .ok (.aload_n 0, 1) := dk_42 (dk_at dksL_law_55 1 rfl rfl)
theorem dL_law_1460 : decode cL_law 1460 = .ok (.iload_n 3, 1) := dk_29 (dk_at dksL_law_55 2 rfl rfl)
theorem dL_law_1461 : decode cL_law 1461 = .ok (.iconst 4, 1) := dk_7 (dk_at dksL_law_55 3 rfl rfl)
theorem dL_law_1462 : decode cL_law 1462 = .ok (.iadd, 1) := dk_96 (dk_at dksL_law_55 4 rfl rfl)
theorem dL_law_1463 : decode cL_law 1463 = .ok (.iaload, 1) := dk_46 (dk_at dksL_law_55 5 rfl rfl)
theorem dL_law_1464 : decode cL_law 1464 = .ok (.aload_n 0, 1) := dk_42 (dk_at dksL_law_55 6 rfl rfl)
theorem dL_law_1465 : decode cL_law 1465 = .ok (.iload_n 3, 1) := dk_29 (dk_at dksL_law_55 7 rfl rfl)
theorem dL_law_1466 : decode cL_law 1466 = .ok (.iconst 5, 1) := dk_8 (dk_at dksL_law_55 8 rfl rfl)
theorem dL_law_1467 : decode cL_law 1467 = .ok (.iadd, 1) := dk_96 (dk_at dksL_law_55 9 rfl rfl)
theorem dL_law_1468 : decode cL_law 1468 = .ok (.iaload, 1) := dk_46 (dk_at dksL_law_55 10 rfl rfl)
theorem dL_law_1469 : decode cL_law 1469 = .ok (.invokevirtual 198, 3) := dk_182 0 198 (dk_at dksL_law_55 11 rfl rfl)
theorem dL_law_1472 : decode cL_law 1472 = .ok (.aload_n 2, 1) := dk_44 (dk_at dksL_law_55 14 rfl rfl)
theorem dL_law_1473 : decode cL_law 1473 = .ok (.aload_n 0, 1) := dk_42 (dk_at dksL_law_55 15 rfl rfl)
theorem dL_law_1474 : decode cL_law 1474 = .ok (.iload_n 3, 1) := dk_29 (dk_at dksL_law_55 16 rfl rfl)
theorem dL_law_1475 : decode cL_law 1475 = .ok (.iconst 1, 1) := dk_4 (dk_at dksL_law_55 17 rfl rfl)
theorem dL_law_1476 : decode cL_law 1476 = .ok (.iadd, 1) := dk_96 (dk_at dksL_law_55 18 rfl rfl)
theorem dL_law_1477 : decode cL_law 1477 = .ok (.iaload, 1) := dk_46 (dk_at dksL_law_55 19 rfl rfl)
theorem dL_law_1478 : decode cL_law 1478 = .ok (.aload_n 0, 1) := dk_42 (dk_at dksL_law_55 20 rfl rfl)
theorem dL_law_1479 : decode cL_law 1479 = .ok (.iload_n 3, 1) := dk_29 (dk_at dksL_law_55 21 rfl rfl)
theorem dL_law_1480 : decode cL_law 1480 = .ok (.iconst 2, 1) := dk_5 (dk_at dksL_law_55 22 rfl rfl)
theorem dL_law_1481 : decode cL_law 1481 = .ok (.iadd, 1) := dk_96 (dk_at dksL_law_55 23 rfl rfl)
theorem dL_law_1482 : decode cL_law 1482 = .ok (.iaload, 1) := dk_46 (dk_at dksL_law_56 0 rfl rfl)
theorem dL_law_1483 : decode cL_law 1483 = .ok (.aload_n 0, 1) := dk_42 (dk_at dksL_law_56 1 rfl rfl)
theorem dL_law_1484 : decode cL_law 1484 = .ok (.iload_n 3, 1) := dk_29 (dk_at dksL_law_56 2 rfl rfl)
theorem dL_law_1485 : decode cL_law 1485 = .ok (.iconst 3, 1) := dk_6 (dk_at dksL_law_56 3 rfl rfl)
theorem dL_law_1486 : decode cL_law 1486 = .ok (.iadd, 1) := dk_96 (dk_at dksL_law_56 4 rfl rfl)
theorem dL_law_1487 : decode cL_law 1487 = .ok (.iaload, 1) := dk_46 (dk_at dksL_law_56 5 rfl rfl)
theorem dL_law_1488 : decode cL_law 1488 = .ok (.aload_n 0, 1) := dk_42 (dk_at dksL_law_56 6 rfl rfl)
theorem dL_law_1489 : decode cL_law 1489 = .ok (.iload_n 3, 1) := dk_29 (dk_at dksL_law_56 7 rfl rfl)
theorem dL_law_1490 : decode cL_law 1490 = .ok (.iconst 4, 1) := dk_7 (dk_at dksL_law_56 8 rfl rfl)
theorem dL_law_1491 : decode cL_law 1491 = .ok (.iadd, 1) := dk_96 (dk_at dksL_law_56 9 rfl rfl)
theorem dL_law_1492 : decode cL_law 1492 = .ok (.iaload, 1) := dk_46 (dk_at dksL_law_56 10 rfl rfl)
theorem dL_law_1493 : decode cL_law 1493 = .ok (.aload_n 0, 1) := dk_42 (dk_at dksL_law_56 11 rfl rfl)
theorem dL_law_1494 : decode cL_law 1494 = .ok (.iload_n 3, 1) := dk_29 (dk_at dksL_law_56 12 rfl rfl)
theorem dL_law_1495 : decode cL_law 1495 = .ok (.iconst 5, 1) := dk_8 (dk_at dksL_law_56 13 rfl rfl)
theorem dL_law_1496 : decode cL_law 1496 = .ok (.iadd, 1) := dk_96 (dk_at dksL_law_56 14 rfl rfl)
theorem dL_law_1497 : decode cL_law 1497 = .ok (.iaload, 1) := dk_46 (dk_at dksL_law_56 15 rfl rfl)
theorem dL_law_1498 : decode cL_law 1498 = .ok (.invokevirtual 201, 3) := dk_182 0 201 (dk_at dksL_law_56 16 rfl rfl)
theorem dL_law_1501 : decode cL_law 1501 = .ok (.if_icmp .eq 5, 3) := dk_159 0 5 (dk_at dksL_law_56 19 rfl rfl)
theorem dL_law_1504 : decode cL_law 1504 = .ok (.iconst 0, 1) := dk_3 (dk_at dksL_law_56 22 rfl rfl)
theorem dL_law_1505 : decode cL_law 1505 = .ok (.ireturn, 1) := dk_172 (dk_at dksL_law_56 23 rfl rfl)
theorem dL_law_1506 : decode cL_law 1506 = .ok (.iinc 3 6, 3) := dk_132 3 6 (dk_at dksL_law_57 0 rfl rfl)
theorem dL_law_1509 : decode cL_law 1509 = .ok (.goto (-1491), 3) := dk_167 250 45 (dk_at dksL_law_57 3 rfl rfl)
theorem dL_law_1512 : decode cL_law 1512 = .ok (.iconst 1, 1) := dk_4 (dk_at dksL_law_57 6 rfl rfl)
theorem dL_law_1513 : decode cL_law 1513 = .ok (.ireturn, 1) := dk_172 (dk_at dksL_law_57 7 rfl rfl)

/-! HatsDecide$Time -/
set_option maxRecDepth 100000
def RX1 : String := "HatsDecide$Time"
def TX1 : u_T := fun k => match k with
  | 0 => ("HatsDecide$Time", "on", "[B", true)
  | 1 => ("HatsDecide$Time", "used", "[I", true)
  | 2 => ("HatsDecide$Time", "heads", "I", false)
  | _ => ("HatsDecide$Time", "day", "I", false)
def tyX1 : Nat → FieldType := fun k => match k with
  | 0 => .array .byte
  | 1 => .array .int
  | 2 => .int
  | _ => .int
abbrev wsX10 : List Cond := u_ws RX1 TX1 4
theorem nmX1 : ∀ a, a < 4 → ∀ b, b < 4 → a ≠ b → (TX1 a).2.1 ≠ (TX1 b).2.1 := by decide +kernel
theorem tyX1_ok : ∀ k, k < 4 → parseFieldDescriptor (TX1 k).2.2.1 = some (tyX1 k) := by decide +kernel
abbrev cX1_init : ByteArray := prog_17_method_1_code
def yX1_init : MethodName := ⟨RX1, "<init>", "()V"⟩
def dkwX1_init_0 : List UInt8 := [42, 183, 0, 3, 42, 16, 6, 188, 8, 181, 0, 9, 42, 16, 6, 188, 10, 181, 0, 15, 177]
abbrev dktX1_init_0 : List UInt8 := dkwX1_init_0 ++ []
theorem dksX1_init_0 : cX1_init.data.toList.drop 0 = dktX1_init_0 := by decide +kernel
theorem dX1_init_0 : decode cX1_init 0 = .ok (.aload_n 0, 1) := dk_42 (dk_at dksX1_init_0 0 rfl rfl)
theorem dX1_init_1 : decode cX1_init 1 = .ok (.invokespecial 3, 3) := dk_183 0 3 (dk_at dksX1_init_0 1 rfl rfl)
theorem dX1_init_4 : decode cX1_init 4 = .ok (.aload_n 0, 1) := dk_42 (dk_at dksX1_init_0 4 rfl rfl)
theorem dX1_init_5 : decode cX1_init 5 = .ok (.bipush 6, 2) := dk_16 6 (dk_at dksX1_init_0 5 rfl rfl)
theorem dX1_init_7 : decode cX1_init 7 = .ok (.newarray .byte, 2) := dk_188_8 (dk_at dksX1_init_0 7 rfl rfl)
theorem dX1_init_9 : decode cX1_init 9 = .ok (.putfield 9, 3) := dk_181 0 9 (dk_at dksX1_init_0 9 rfl rfl)
theorem dX1_init_12 : decode cX1_init 12 = .ok (.aload_n 0, 1) := dk_42 (dk_at dksX1_init_0 12 rfl rfl)
theorem dX1_init_13 : decode cX1_init 13 = .ok (.bipush 6, 2) := dk_16 6 (dk_at dksX1_init_0 13 rfl rfl)
theorem dX1_init_15 : decode cX1_init 15 = .ok (.newarray .int, 2) := dk_188_10 (dk_at dksX1_init_0 15 rfl rfl)
theorem dX1_init_17 : decode cX1_init 17 = .ok (.putfield 15, 3) := dk_181 0 15 (dk_at dksX1_init_0 17 rfl rfl)
theorem dX1_init_20 : decode cX1_init 20 = .ok (.return_, 1) := dk_177 (dk_at dksX1_init_0 20 rfl rfl)
abbrev cX1_headOf : ByteArray := prog_17_method_3_code
def yX1_headOf : MethodName := ⟨RX1, "headOf", "(I)I"⟩
def dkwX1_headOf_1 : List UInt8 := [132, 2, 1, 167, 255, 233, 2, 172]
abbrev dktX1_headOf_1 : List UInt8 := dkwX1_headOf_1 ++ []
def dkwX1_headOf_0 : List UInt8 := [3, 61, 28, 42, 180, 0, 25, 162, 0, 21, 42, 180, 0, 9, 28, 51, 27, 160, 0, 5, 28, 172]
abbrev dktX1_headOf_0 : List UInt8 := dkwX1_headOf_0 ++ dktX1_headOf_1
theorem dksX1_headOf_0 : cX1_headOf.data.toList.drop 0 = dktX1_headOf_0 := by decide +kernel
theorem dksX1_headOf_1 : cX1_headOf.data.toList.drop 22 = dktX1_headOf_1 := dk_seg dksX1_headOf_0 22 rfl rfl
theorem dX1_headOf_0 : decode cX1_headOf 0 = .ok (.iconst 0, 1) := dk_3 (dk_at dksX1_headOf_0 0 rfl rfl)
theorem dX1_headOf_1 : decode cX1_headOf 1 = .ok (.istore_n 2, 1) := dk_61 (dk_at dksX1_headOf_0 1 rfl rfl)
theorem dX1_headOf_2 : decode cX1_headOf 2 = .ok (.iload_n 2, 1) := dk_28 (dk_at dksX1_headOf_0 2 rfl rfl)
theorem dX1_headOf_3 : decode cX1_headOf 3 = .ok (.aload_n 0, 1) := dk_42 (dk_at dksX1_headOf_0 3 rfl rfl)
theorem dX1_headOf_4 : decode cX1_headOf 4 = .ok (.getfield 25, 3) := dk_180 0 25 (dk_at dksX1_headOf_0 4 rfl rfl)
theorem dX1_headOf_7 : decode cX1_headOf 7 = .ok (.if_icmp .ge 21, 3) := dk_162 0 21 (dk_at dksX1_headOf_0 7 rfl rfl)
theorem dX1_headOf_10 : decode cX1_headOf 10 = .ok (.aload_n 0, 1) := dk_42 (dk_at dksX1_headOf_0 10 rfl rfl)
theorem dX1_headOf_11 : decode cX1_headOf 11 = .ok (.getfield 9, 3) := dk_180 0 9 (dk_at dksX1_headOf_0 11 rfl rfl)
theorem dX1_headOf_14 : decode cX1_headOf 14 = .ok (.iload_n 2, 1) := dk_28 (dk_at dksX1_headOf_0 14 rfl rfl)
theorem dX1_headOf_15 : decode cX1_headOf 15 = .ok (.baload, 1) := dk_51 (dk_at dksX1_headOf_0 15 rfl rfl)
theorem dX1_headOf_16 : decode cX1_headOf 16 = .ok (.iload_n 1, 1) := dk_27 (dk_at dksX1_headOf_0 16 rfl rfl)
theorem dX1_headOf_17 : decode cX1_headOf 17 = .ok (.if_icmp .ne 5, 3) := dk_160 0 5 (dk_at dksX1_headOf_0 17 rfl rfl)
theorem dX1_headOf_20 : decode cX1_headOf 20 = .ok (.iload_n 2, 1) := dk_28 (dk_at dksX1_headOf_0 20 rfl rfl)
theorem dX1_headOf_21 : decode cX1_headOf 21 = .ok (.ireturn, 1) := dk_172 (dk_at dksX1_headOf_0 21 rfl rfl)
theorem dX1_headOf_22 : decode cX1_headOf 22 = .ok (.iinc 2 1, 3) := dk_132 2 1 (dk_at dksX1_headOf_1 0 rfl rfl)
theorem dX1_headOf_25 : decode cX1_headOf 25 = .ok (.goto (-23), 3) := dk_167 255 233 (dk_at dksX1_headOf_1 3 rfl rfl)
theorem dX1_headOf_28 : decode cX1_headOf 28 = .ok (.iconst (-1), 1) := dk_2 (dk_at dksX1_headOf_1 6 rfl rfl)
theorem dX1_headOf_29 : decode cX1_headOf 29 = .ok (.ireturn, 1) := dk_172 (dk_at dksX1_headOf_1 7 rfl rfl)
abbrev cX1_wears : ByteArray := prog_17_method_6_code
def yX1_wears : MethodName := ⟨RX1, "wears", "()V"⟩
def dkwX1_wears_2 : List UInt8 := [181, 0, 29, 177]
abbrev dktX1_wears_2 : List UInt8 := dkwX1_wears_2 ++ []
def dkwX1_wears_1 : List UInt8 := [42, 180, 0, 9, 27, 51, 92, 46, 4, 96, 79, 132, 1, 1, 167, 255, 220, 42, 89, 180, 0, 29, 4, 96]
abbrev dktX1_wears_1 : List UInt8 := dkwX1_wears_1 ++ dktX1_wears_2
def dkwX1_wears_0 : List UInt8 := [3, 60, 27, 42, 180, 0, 25, 162, 0, 34, 42, 180, 0, 9, 27, 51, 2, 159, 0, 18, 42, 180, 0, 15]
abbrev dktX1_wears_0 : List UInt8 := dkwX1_wears_0 ++ dktX1_wears_1
theorem dksX1_wears_0 : cX1_wears.data.toList.drop 0 = dktX1_wears_0 := by decide +kernel
theorem dksX1_wears_1 : cX1_wears.data.toList.drop 24 = dktX1_wears_1 := dk_seg dksX1_wears_0 24 rfl rfl
theorem dksX1_wears_2 : cX1_wears.data.toList.drop 48 = dktX1_wears_2 := dk_seg dksX1_wears_1 24 rfl rfl
theorem dX1_wears_0 : decode cX1_wears 0 = .ok (.iconst 0, 1) := dk_3 (dk_at dksX1_wears_0 0 rfl rfl)
theorem dX1_wears_1 : decode cX1_wears 1 = .ok (.istore_n 1, 1) := dk_60 (dk_at dksX1_wears_0 1 rfl rfl)
theorem dX1_wears_2 : decode cX1_wears 2 = .ok (.iload_n 1, 1) := dk_27 (dk_at dksX1_wears_0 2 rfl rfl)
theorem dX1_wears_3 : decode cX1_wears 3 = .ok (.aload_n 0, 1) := dk_42 (dk_at dksX1_wears_0 3 rfl rfl)
theorem dX1_wears_4 : decode cX1_wears 4 = .ok (.getfield 25, 3) := dk_180 0 25 (dk_at dksX1_wears_0 4 rfl rfl)
theorem dX1_wears_7 : decode cX1_wears 7 = .ok (.if_icmp .ge 34, 3) := dk_162 0 34 (dk_at dksX1_wears_0 7 rfl rfl)
theorem dX1_wears_10 : decode cX1_wears 10 = .ok (.aload_n 0, 1) := dk_42 (dk_at dksX1_wears_0 10 rfl rfl)
theorem dX1_wears_11 : decode cX1_wears 11 = .ok (.getfield 9, 3) := dk_180 0 9 (dk_at dksX1_wears_0 11 rfl rfl)
theorem dX1_wears_14 : decode cX1_wears 14 = .ok (.iload_n 1, 1) := dk_27 (dk_at dksX1_wears_0 14 rfl rfl)
theorem dX1_wears_15 : decode cX1_wears 15 = .ok (.baload, 1) := dk_51 (dk_at dksX1_wears_0 15 rfl rfl)
theorem dX1_wears_16 : decode cX1_wears 16 = .ok (.iconst (-1), 1) := dk_2 (dk_at dksX1_wears_0 16 rfl rfl)
theorem dX1_wears_17 : decode cX1_wears 17 = .ok (.if_icmp .eq 18, 3) := dk_159 0 18 (dk_at dksX1_wears_0 17 rfl rfl)
theorem dX1_wears_20 : decode cX1_wears 20 = .ok (.aload_n 0, 1) := dk_42 (dk_at dksX1_wears_0 20 rfl rfl)
theorem dX1_wears_21 : decode cX1_wears 21 = .ok (.getfield 15, 3) := dk_180 0 15 (dk_at dksX1_wears_0 21 rfl rfl)
theorem dX1_wears_24 : decode cX1_wears 24 = .ok (.aload_n 0, 1) := dk_42 (dk_at dksX1_wears_1 0 rfl rfl)
theorem dX1_wears_25 : decode cX1_wears 25 = .ok (.getfield 9, 3) := dk_180 0 9 (dk_at dksX1_wears_1 1 rfl rfl)
theorem dX1_wears_28 : decode cX1_wears 28 = .ok (.iload_n 1, 1) := dk_27 (dk_at dksX1_wears_1 4 rfl rfl)
theorem dX1_wears_29 : decode cX1_wears 29 = .ok (.baload, 1) := dk_51 (dk_at dksX1_wears_1 5 rfl rfl)
theorem dX1_wears_30 : decode cX1_wears 30 = .ok (.dup2, 1) := dk_92 (dk_at dksX1_wears_1 6 rfl rfl)
theorem dX1_wears_31 : decode cX1_wears 31 = .ok (.iaload, 1) := dk_46 (dk_at dksX1_wears_1 7 rfl rfl)
theorem dX1_wears_32 : decode cX1_wears 32 = .ok (.iconst 1, 1) := dk_4 (dk_at dksX1_wears_1 8 rfl rfl)
theorem dX1_wears_33 : decode cX1_wears 33 = .ok (.iadd, 1) := dk_96 (dk_at dksX1_wears_1 9 rfl rfl)
theorem dX1_wears_34 : decode cX1_wears 34 = .ok (.iastore, 1) := dk_79 (dk_at dksX1_wears_1 10 rfl rfl)
theorem dX1_wears_35 : decode cX1_wears 35 = .ok (.iinc 1 1, 3) := dk_132 1 1 (dk_at dksX1_wears_1 11 rfl rfl)
theorem dX1_wears_38 : decode cX1_wears 38 = .ok (.goto (-36), 3) := dk_167 255 220 (dk_at dksX1_wears_1 14 rfl rfl)
theorem dX1_wears_41 : decode cX1_wears 41 = .ok (.aload_n 0, 1) := dk_42 (dk_at dksX1_wears_1 17 rfl rfl)
theorem dX1_wears_42 : decode cX1_wears 42 = .ok (.dup, 1) := dk_89 (dk_at dksX1_wears_1 18 rfl rfl)
theorem dX1_wears_43 : decode cX1_wears 43 = .ok (.getfield 29, 3) := dk_180 0 29 (dk_at dksX1_wears_1 19 rfl rfl)
theorem dX1_wears_46 : decode cX1_wears 46 = .ok (.iconst 1, 1) := dk_4 (dk_at dksX1_wears_1 22 rfl rfl)
theorem dX1_wears_47 : decode cX1_wears 47 = .ok (.iadd, 1) := dk_96 (dk_at dksX1_wears_1 23 rfl rfl)
theorem dX1_wears_48 : decode cX1_wears 48 = .ok (.putfield 29, 3) := dk_181 0 29 (dk_at dksX1_wears_2 0 rfl rfl)
theorem dX1_wears_51 : decode cX1_wears 51 = .ok (.return_, 1) := dk_177 (dk_at dksX1_wears_2 3 rfl rfl)
abbrev cX1_gusts : ByteArray := prog_17_method_5_code
def yX1_gusts : MethodName := ⟨RX1, "gusts", "(I)V"⟩
def dkwX1_gusts_1 : List UInt8 := [180, 0, 9, 29, 27, 96, 42, 180, 0, 25, 112, 44, 29, 51, 84, 132, 3, 1, 167, 255, 229, 177]
abbrev dktX1_gusts_1 : List UInt8 := dkwX1_gusts_1 ++ []
def dkwX1_gusts_0 : List UInt8 := [42, 180, 0, 9, 182, 0, 32, 192, 0, 33, 77, 3, 62, 29, 42, 180, 0, 25, 162, 0, 25, 42]
abbrev dktX1_gusts_0 : List UInt8 := dkwX1_gusts_0 ++ dktX1_gusts_1
theorem dksX1_gusts_0 : cX1_gusts.data.toList.drop 0 = dktX1_gusts_0 := by decide +kernel
theorem dksX1_gusts_1 : cX1_gusts.data.toList.drop 22 = dktX1_gusts_1 := dk_seg dksX1_gusts_0 22 rfl rfl
theorem dX1_gusts_0 : decode cX1_gusts 0 = .ok (.aload_n 0, 1) := dk_42 (dk_at dksX1_gusts_0 0 rfl rfl)
theorem dX1_gusts_1 : decode cX1_gusts 1 = .ok (.getfield 9, 3) := dk_180 0 9 (dk_at dksX1_gusts_0 1 rfl rfl)
theorem dX1_gusts_4 : decode cX1_gusts 4 = .ok (.invokevirtual 32, 3) := dk_182 0 32 (dk_at dksX1_gusts_0 4 rfl rfl)
theorem dX1_gusts_7 : decode cX1_gusts 7 = .ok (.checkcast 33, 3) := dk_192 0 33 (dk_at dksX1_gusts_0 7 rfl rfl)
theorem dX1_gusts_10 : decode cX1_gusts 10 = .ok (.astore_n 2, 1) := dk_77 (dk_at dksX1_gusts_0 10 rfl rfl)
theorem dX1_gusts_11 : decode cX1_gusts 11 = .ok (.iconst 0, 1) := dk_3 (dk_at dksX1_gusts_0 11 rfl rfl)
theorem dX1_gusts_12 : decode cX1_gusts 12 = .ok (.istore_n 3, 1) := dk_62 (dk_at dksX1_gusts_0 12 rfl rfl)
theorem dX1_gusts_13 : decode cX1_gusts 13 = .ok (.iload_n 3, 1) := dk_29 (dk_at dksX1_gusts_0 13 rfl rfl)
theorem dX1_gusts_14 : decode cX1_gusts 14 = .ok (.aload_n 0, 1) := dk_42 (dk_at dksX1_gusts_0 14 rfl rfl)
theorem dX1_gusts_15 : decode cX1_gusts 15 = .ok (.getfield 25, 3) := dk_180 0 25 (dk_at dksX1_gusts_0 15 rfl rfl)
theorem dX1_gusts_18 : decode cX1_gusts 18 = .ok (.if_icmp .ge 25, 3) := dk_162 0 25 (dk_at dksX1_gusts_0 18 rfl rfl)
theorem dX1_gusts_21 : decode cX1_gusts 21 = .ok (.aload_n 0, 1) := dk_42 (dk_at dksX1_gusts_0 21 rfl rfl)
theorem dX1_gusts_22 : decode cX1_gusts 22 = .ok (.getfield 9, 3) := dk_180 0 9 (dk_at dksX1_gusts_1 0 rfl rfl)
theorem dX1_gusts_25 : decode cX1_gusts 25 = .ok (.iload_n 3, 1) := dk_29 (dk_at dksX1_gusts_1 3 rfl rfl)
theorem dX1_gusts_26 : decode cX1_gusts 26 = .ok (.iload_n 1, 1) := dk_27 (dk_at dksX1_gusts_1 4 rfl rfl)
theorem dX1_gusts_27 : decode cX1_gusts 27 = .ok (.iadd, 1) := dk_96 (dk_at dksX1_gusts_1 5 rfl rfl)
theorem dX1_gusts_28 : decode cX1_gusts 28 = .ok (.aload_n 0, 1) := dk_42 (dk_at dksX1_gusts_1 6 rfl rfl)
theorem dX1_gusts_29 : decode cX1_gusts 29 = .ok (.getfield 25, 3) := dk_180 0 25 (dk_at dksX1_gusts_1 7 rfl rfl)
theorem dX1_gusts_32 : decode cX1_gusts 32 = .ok (.irem, 1) := dk_112 (dk_at dksX1_gusts_1 10 rfl rfl)
theorem dX1_gusts_33 : decode cX1_gusts 33 = .ok (.aload_n 2, 1) := dk_44 (dk_at dksX1_gusts_1 11 rfl rfl)
theorem dX1_gusts_34 : decode cX1_gusts 34 = .ok (.iload_n 3, 1) := dk_29 (dk_at dksX1_gusts_1 12 rfl rfl)
theorem dX1_gusts_35 : decode cX1_gusts 35 = .ok (.baload, 1) := dk_51 (dk_at dksX1_gusts_1 13 rfl rfl)
theorem dX1_gusts_36 : decode cX1_gusts 36 = .ok (.bastore, 1) := dk_84 (dk_at dksX1_gusts_1 14 rfl rfl)
theorem dX1_gusts_37 : decode cX1_gusts 37 = .ok (.iinc 3 1, 3) := dk_132 3 1 (dk_at dksX1_gusts_1 15 rfl rfl)
theorem dX1_gusts_40 : decode cX1_gusts 40 = .ok (.goto (-27), 3) := dk_167 255 229 (dk_at dksX1_gusts_1 18 rfl rfl)
theorem dX1_gusts_43 : decode cX1_gusts 43 = .ok (.return_, 1) := dk_177 (dk_at dksX1_gusts_1 21 rfl rfl)
abbrev cX1_changes : ByteArray := prog_17_method_4_code
def yX1_changes : MethodName := ⟨RX1, "changes", "(II)V"⟩
def dkwX1_changes_1 : List UInt8 := [29, 84, 177]
abbrev dktX1_changes_1 : List UInt8 := dkwX1_changes_1 ++ []
def dkwX1_changes_0 : List UInt8 := [42, 180, 0, 9, 27, 51, 62, 42, 180, 0, 9, 27, 42, 180, 0, 9, 28, 51, 84, 42, 180, 0, 9, 28]
abbrev dktX1_changes_0 : List UInt8 := dkwX1_changes_0 ++ dktX1_changes_1
theorem dksX1_changes_0 : cX1_changes.data.toList.drop 0 = dktX1_changes_0 := by decide +kernel
theorem dksX1_changes_1 : cX1_changes.data.toList.drop 24 = dktX1_changes_1 := dk_seg dksX1_changes_0 24 rfl rfl
theorem dX1_changes_0 : decode cX1_changes 0 = .ok (.aload_n 0, 1) := dk_42 (dk_at dksX1_changes_0 0 rfl rfl)
theorem dX1_changes_1 : decode cX1_changes 1 = .ok (.getfield 9, 3) := dk_180 0 9 (dk_at dksX1_changes_0 1 rfl rfl)
theorem dX1_changes_4 : decode cX1_changes 4 = .ok (.iload_n 1, 1) := dk_27 (dk_at dksX1_changes_0 4 rfl rfl)
theorem dX1_changes_5 : decode cX1_changes 5 = .ok (.baload, 1) := dk_51 (dk_at dksX1_changes_0 5 rfl rfl)
theorem dX1_changes_6 : decode cX1_changes 6 = .ok (.istore_n 3, 1) := dk_62 (dk_at dksX1_changes_0 6 rfl rfl)
theorem dX1_changes_7 : decode cX1_changes 7 = .ok (.aload_n 0, 1) := dk_42 (dk_at dksX1_changes_0 7 rfl rfl)
theorem dX1_changes_8 : decode cX1_changes 8 = .ok (.getfield 9, 3) := dk_180 0 9 (dk_at dksX1_changes_0 8 rfl rfl)
theorem dX1_changes_11 : decode cX1_changes 11 = .ok (.iload_n 1, 1) := dk_27 (dk_at dksX1_changes_0 11 rfl rfl)
theorem dX1_changes_12 : decode cX1_changes 12 = .ok (.aload_n 0, 1) := dk_42 (dk_at dksX1_changes_0 12 rfl rfl)
theorem dX1_changes_13 : decode cX1_changes 13 = .ok (.getfield 9, 3) := dk_180 0 9 (dk_at dksX1_changes_0 13 rfl rfl)
theorem dX1_changes_16 : decode cX1_changes 16 = .ok (.iload_n 2, 1) := dk_28 (dk_at dksX1_changes_0 16 rfl rfl)
theorem dX1_changes_17 : decode cX1_changes 17 = .ok (.baload, 1) := dk_51 (dk_at dksX1_changes_0 17 rfl rfl)
theorem dX1_changes_18 : decode cX1_changes 18 = .ok (.bastore, 1) := dk_84 (dk_at dksX1_changes_0 18 rfl rfl)
theorem dX1_changes_19 : decode cX1_changes 19 = .ok (.aload_n 0, 1) := dk_42 (dk_at dksX1_changes_0 19 rfl rfl)
theorem dX1_changes_20 : decode cX1_changes 20 = .ok (.getfield 9, 3) := dk_180 0 9 (dk_at dksX1_changes_0 20 rfl rfl)
theorem dX1_changes_23 : decode cX1_changes 23 = .ok (.iload_n 2, 1) := dk_28 (dk_at dksX1_changes_0 23 rfl rfl)
theorem dX1_changes_24 : decode cX1_changes 24 = .ok (.iload_n 3, 1) := dk_29 (dk_at dksX1_changes_1 0 rfl rfl)
theorem dX1_changes_25 : decode cX1_changes 25 = .ok (.bastore, 1) := dk_84 (dk_at dksX1_changes_1 1 rfl rfl)
theorem dX1_changes_26 : decode cX1_changes 26 = .ok (.return_, 1) := dk_177 (dk_at dksX1_changes_1 2 rfl rfl)
abbrev cX1_takes : ByteArray := prog_17_method_2_code
def yX1_takes : MethodName := ⟨RX1, "takes", "(LHatsDecide$Time;)V"⟩
def dkwX1_takes_1 : List UInt8 := [3, 16, 6, 184, 0, 19, 42, 43, 180, 0, 25, 181, 0, 25, 42, 43, 180, 0, 29, 181, 0, 29, 177]
abbrev dktX1_takes_1 : List UInt8 := dkwX1_takes_1 ++ []
def dkwX1_takes_0 : List UInt8 := [43, 180, 0, 9, 3, 42, 180, 0, 9, 3, 16, 6, 184, 0, 19, 43, 180, 0, 15, 3, 42, 180, 0, 15]
abbrev dktX1_takes_0 : List UInt8 := dkwX1_takes_0 ++ dktX1_takes_1
theorem dksX1_takes_0 : cX1_takes.data.toList.drop 0 = dktX1_takes_0 := by decide +kernel
theorem dksX1_takes_1 : cX1_takes.data.toList.drop 24 = dktX1_takes_1 := dk_seg dksX1_takes_0 24 rfl rfl
theorem dX1_takes_0 : decode cX1_takes 0 = .ok (.aload_n 1, 1) := dk_43 (dk_at dksX1_takes_0 0 rfl rfl)
theorem dX1_takes_1 : decode cX1_takes 1 = .ok (.getfield 9, 3) := dk_180 0 9 (dk_at dksX1_takes_0 1 rfl rfl)
theorem dX1_takes_4 : decode cX1_takes 4 = .ok (.iconst 0, 1) := dk_3 (dk_at dksX1_takes_0 4 rfl rfl)
theorem dX1_takes_5 : decode cX1_takes 5 = .ok (.aload_n 0, 1) := dk_42 (dk_at dksX1_takes_0 5 rfl rfl)
theorem dX1_takes_6 : decode cX1_takes 6 = .ok (.getfield 9, 3) := dk_180 0 9 (dk_at dksX1_takes_0 6 rfl rfl)
theorem dX1_takes_9 : decode cX1_takes 9 = .ok (.iconst 0, 1) := dk_3 (dk_at dksX1_takes_0 9 rfl rfl)
theorem dX1_takes_10 : decode cX1_takes 10 = .ok (.bipush 6, 2) := dk_16 6 (dk_at dksX1_takes_0 10 rfl rfl)
theorem dX1_takes_12 : decode cX1_takes 12 = .ok (.invokestatic 19, 3) := dk_184 0 19 (dk_at dksX1_takes_0 12 rfl rfl)
theorem dX1_takes_15 : decode cX1_takes 15 = .ok (.aload_n 1, 1) := dk_43 (dk_at dksX1_takes_0 15 rfl rfl)
theorem dX1_takes_16 : decode cX1_takes 16 = .ok (.getfield 15, 3) := dk_180 0 15 (dk_at dksX1_takes_0 16 rfl rfl)
theorem dX1_takes_19 : decode cX1_takes 19 = .ok (.iconst 0, 1) := dk_3 (dk_at dksX1_takes_0 19 rfl rfl)
theorem dX1_takes_20 : decode cX1_takes 20 = .ok (.aload_n 0, 1) := dk_42 (dk_at dksX1_takes_0 20 rfl rfl)
theorem dX1_takes_21 : decode cX1_takes 21 = .ok (.getfield 15, 3) := dk_180 0 15 (dk_at dksX1_takes_0 21 rfl rfl)
theorem dX1_takes_24 : decode cX1_takes 24 = .ok (.iconst 0, 1) := dk_3 (dk_at dksX1_takes_1 0 rfl rfl)
theorem dX1_takes_25 : decode cX1_takes 25 = .ok (.bipush 6, 2) := dk_16 6 (dk_at dksX1_takes_1 1 rfl rfl)
theorem dX1_takes_27 : decode cX1_takes 27 = .ok (.invokestatic 19, 3) := dk_184 0 19 (dk_at dksX1_takes_1 3 rfl rfl)
theorem dX1_takes_30 : decode cX1_takes 30 = .ok (.aload_n 0, 1) := dk_42 (dk_at dksX1_takes_1 6 rfl rfl)
theorem dX1_takes_31 : decode cX1_takes 31 = .ok (.aload_n 1, 1) := dk_43 (dk_at dksX1_takes_1 7 rfl rfl)
theorem dX1_takes_32 : decode cX1_takes 32 = .ok (.getfield 25, 3) := dk_180 0 25 (dk_at dksX1_takes_1 8 rfl rfl)
theorem dX1_takes_35 : decode cX1_takes 35 = .ok (.putfield 25, 3) := dk_181 0 25 (dk_at dksX1_takes_1 11 rfl rfl)
theorem dX1_takes_38 : decode cX1_takes 38 = .ok (.aload_n 0, 1) := dk_42 (dk_at dksX1_takes_1 14 rfl rfl)
theorem dX1_takes_39 : decode cX1_takes 39 = .ok (.aload_n 1, 1) := dk_43 (dk_at dksX1_takes_1 15 rfl rfl)
theorem dX1_takes_40 : decode cX1_takes 40 = .ok (.getfield 29, 3) := dk_180 0 29 (dk_at dksX1_takes_1 16 rfl rfl)
theorem dX1_takes_43 : decode cX1_takes 43 = .ok (.putfield 29, 3) := dk_181 0 29 (dk_at dksX1_takes_1 19 rfl rfl)
theorem dX1_takes_46 : decode cX1_takes 46 = .ok (.return_, 1) := dk_177 (dk_at dksX1_takes_1 22 rfl rfl)
theorem q97 : (Jvm.Cond.initialized "HatsDecide$Time") ∈ lw_all := lw_g (lw_at lw_m1 2 rfl) rfl
theorem q149 : (Jvm.Cond.instantiable "HatsDecide$Time" (4 : Nat)) ∈ lw_all := lw_g (lw_at lw_m1 54 rfl) rfl
theorem q151 : (Jvm.Cond.instanceMethod ({ cls := "HatsDecide$Time", name := "<init>", desc := "()V" } : Jvm.MethodName)) ∈ lw_all := lw_g (lw_at lw_m1 56 rfl) rfl
theorem q152 : (Jvm.Cond.code ({ cls := "HatsDecide$Time", name := "<init>", desc := "()V" } : Jvm.MethodName) prog_17_method_1_code (1 : Nat) (Option.none : Option Jvm.ClassFile.FieldType)) ∈ lw_all := lw_g (lw_at lw_m1 57 rfl) rfl
theorem q153 : (Jvm.Cond.methodLink "HatsDecide$Time" (3 : Nat) ({ cls := "java/lang/Object", name := "<init>", desc := "()V" } : Jvm.MethodName)) ∈ lw_all := lw_g (lw_at lw_m1 58 rfl) rfl
theorem q154 : (Jvm.Cond.fieldLink "HatsDecide$Time" (9 : Nat) "HatsDecide$Time" "on" "[B") ∈ lw_all := lw_g (lw_at lw_m1 59 rfl) rfl
theorem q156 : (Jvm.Cond.fieldLink "HatsDecide$Time" (15 : Nat) "HatsDecide$Time" "used" "[I") ∈ lw_all := lw_g (lw_at lw_m1 61 rfl) rfl
theorem q158 : (Jvm.Cond.fieldLink "HatsDecide$Time" (25 : Nat) "HatsDecide$Time" "heads" "I") ∈ lw_all := lw_g (lw_at lw_m1 63 rfl) rfl
theorem q160 : (Jvm.Cond.fieldLink "HatsDecide$Time" (29 : Nat) "HatsDecide$Time" "day" "I") ∈ lw_all := lw_g (lw_at lw_m1 65 rfl) rfl
theorem q162 : (Jvm.Cond.laysFinal "HatsDecide$Time" "HatsDecide$Time" "on" "[B") ∈ lw_all := lw_g (lw_at lw_m1 67 rfl) rfl
theorem q163 : (Jvm.Cond.soleField "HatsDecide$Time" "on") ∈ lw_all := lw_g (lw_at lw_m1 68 rfl) rfl
theorem q164 : (Jvm.Cond.laysFinal "HatsDecide$Time" "HatsDecide$Time" "used" "[I") ∈ lw_all := lw_g (lw_at lw_m1 69 rfl) rfl
theorem q165 : (Jvm.Cond.soleField "HatsDecide$Time" "used") ∈ lw_all := lw_g (lw_at lw_m1 70 rfl) rfl
theorem q166 : (Jvm.Cond.lays "HatsDecide$Time" "HatsDecide$Time" "heads" "I") ∈ lw_all := lw_g (lw_at lw_m1 71 rfl) rfl
theorem q167 : (Jvm.Cond.soleField "HatsDecide$Time" "heads") ∈ lw_all := lw_g (lw_at lw_m1 72 rfl) rfl
theorem q168 : (Jvm.Cond.lays "HatsDecide$Time" "HatsDecide$Time" "day" "I") ∈ lw_all := lw_g (lw_at lw_m1 73 rfl) rfl
theorem q169 : (Jvm.Cond.soleField "HatsDecide$Time" "day") ∈ lw_all := lw_g (lw_at lw_m1 74 rfl) rfl
theorem q170 : (Jvm.Cond.superclass "HatsDecide$Time" "java/lang/Object") ∈ lw_all := lw_g (lw_at lw_m1 75 rfl) rfl
theorem q594 : (Jvm.Cond.instanceMethod ({ cls := "HatsDecide$Time", name := "headOf", desc := "(I)I" } : Jvm.MethodName)) ∈ lw_all := lw_g (lw_at lw_m3 19 rfl) rfl
theorem q595 : (Jvm.Cond.selects "HatsDecide$Time" ({ cls := "HatsDecide$Time", name := "headOf", desc := "(I)I" } : Jvm.MethodName) ({ cls := "HatsDecide$Time", name := "headOf", desc := "(I)I" } : Jvm.MethodName)) ∈ lw_all := lw_g (lw_at lw_m3 20 rfl) rfl
theorem q596 : (Jvm.Cond.code ({ cls := "HatsDecide$Time", name := "headOf", desc := "(I)I" } : Jvm.MethodName) prog_17_method_3_code (3 : Nat) (Option.some Jvm.ClassFile.FieldType.int)) ∈ lw_all := lw_g (lw_at lw_m3 21 rfl) rfl
theorem q1014 : (Jvm.Cond.selects "HatsDecide$Time" ({ cls := "java/lang/Object", name := "getClass", desc := "()Ljava/lang/Class;" } : Jvm.MethodName) ({ cls := "java/lang/Object", name := "getClass", desc := "()Ljava/lang/Class;" } : Jvm.MethodName)) ∈ lw_all := lw_g (lw_at lw_m4 199 rfl) rfl
theorem q1076 : (Jvm.Cond.instanceMethod ({ cls := "HatsDecide$Time", name := "wears", desc := "()V" } : Jvm.MethodName)) ∈ lw_all := lw_g (lw_at lw_m5 21 rfl) rfl
theorem q1077 : (Jvm.Cond.selects "HatsDecide$Time" ({ cls := "HatsDecide$Time", name := "wears", desc := "()V" } : Jvm.MethodName) ({ cls := "HatsDecide$Time", name := "wears", desc := "()V" } : Jvm.MethodName)) ∈ lw_all := lw_g (lw_at lw_m5 22 rfl) rfl
theorem q1078 : (Jvm.Cond.code ({ cls := "HatsDecide$Time", name := "wears", desc := "()V" } : Jvm.MethodName) prog_17_method_6_code (2 : Nat) (Option.none : Option Jvm.ClassFile.FieldType)) ∈ lw_all := lw_g (lw_at lw_m5 23 rfl) rfl
theorem q1084 : (Jvm.Cond.instanceMethod ({ cls := "HatsDecide$Time", name := "gusts", desc := "(I)V" } : Jvm.MethodName)) ∈ lw_all := lw_g (lw_at lw_m5 29 rfl) rfl
theorem q1085 : (Jvm.Cond.selects "HatsDecide$Time" ({ cls := "HatsDecide$Time", name := "gusts", desc := "(I)V" } : Jvm.MethodName) ({ cls := "HatsDecide$Time", name := "gusts", desc := "(I)V" } : Jvm.MethodName)) ∈ lw_all := lw_g (lw_at lw_m5 30 rfl) rfl
theorem q1086 : (Jvm.Cond.code ({ cls := "HatsDecide$Time", name := "gusts", desc := "(I)V" } : Jvm.MethodName) prog_17_method_5_code (4 : Nat) (Option.none : Option Jvm.ClassFile.FieldType)) ∈ lw_all := lw_g (lw_at lw_m5 31 rfl) rfl
theorem q1087 : (Jvm.Cond.methodLink "HatsDecide$Time" (32 : Nat) ({ cls := "[B", name := "clone", desc := "()Ljava/lang/Object;" } : Jvm.MethodName)) ∈ lw_all := lw_g (lw_at lw_m5 32 rfl) rfl
theorem q1093 : (Jvm.Cond.classLink "HatsDecide$Time" (33 : Nat) "[B") ∈ lw_all := lw_g (lw_at lw_m5 38 rfl) rfl
theorem q1099 : (Jvm.Cond.instanceMethod ({ cls := "HatsDecide$Time", name := "changes", desc := "(II)V" } : Jvm.MethodName)) ∈ lw_all := lw_g (lw_at lw_m5 44 rfl) rfl
theorem q1100 : (Jvm.Cond.selects "HatsDecide$Time" ({ cls := "HatsDecide$Time", name := "changes", desc := "(II)V" } : Jvm.MethodName) ({ cls := "HatsDecide$Time", name := "changes", desc := "(II)V" } : Jvm.MethodName)) ∈ lw_all := lw_g (lw_at lw_m5 45 rfl) rfl
theorem q1101 : (Jvm.Cond.code ({ cls := "HatsDecide$Time", name := "changes", desc := "(II)V" } : Jvm.MethodName) prog_17_method_4_code (4 : Nat) (Option.none : Option Jvm.ClassFile.FieldType)) ∈ lw_all := lw_g (lw_at lw_m5 46 rfl) rfl
theorem q1123 : (Jvm.Cond.instanceMethod ({ cls := "HatsDecide$Time", name := "takes", desc := "(LHatsDecide$Time;)V" } : Jvm.MethodName)) ∈ lw_all := lw_g (lw_at lw_m5 68 rfl) rfl
theorem q1124 : (Jvm.Cond.selects "HatsDecide$Time" ({ cls := "HatsDecide$Time", name := "takes", desc := "(LHatsDecide$Time;)V" } : Jvm.MethodName) ({ cls := "HatsDecide$Time", name := "takes", desc := "(LHatsDecide$Time;)V" } : Jvm.MethodName)) ∈ lw_all := lw_g (lw_at lw_m5 69 rfl) rfl
theorem q1125 : (Jvm.Cond.code ({ cls := "HatsDecide$Time", name := "takes", desc := "(LHatsDecide$Time;)V" } : Jvm.MethodName) prog_17_method_2_code (2 : Nat) (Option.none : Option Jvm.ClassFile.FieldType)) ∈ lw_all := lw_g (lw_at lw_m5 70 rfl) rfl
theorem q1126 : (Jvm.Cond.methodLink "HatsDecide$Time" (19 : Nat) ({ cls := "java/lang/System", name := "arraycopy", desc := "(Ljava/lang/Object;ILjava/lang/Object;II)V" } : Jvm.MethodName)) ∈ lw_all := lw_g (lw_at lw_m5 71 rfl) rfl
theorem q2177 : (Jvm.Cond.castable "HatsDecide$Time" "java/lang/Object") ∈ lw_tbl := lw_at lw_m9 162 rfl
theorem in_X1 : ∀ w ∈ wsX10, w ∈ lw_all := lw_in wsX10 [162, 164, 166, 168] (by decide +kernel) (by decide +kernel)

/-! HatsDecide$Crown -/
set_option maxRecDepth 100000
def RX10 : String := "HatsDecide$Crown"
def TX10 : u_T := fun k => match k with
  | 0 => ("HatsDecide$Hat", "number", "I", true)
  | 1 => ("HatsDecide$Hat", "v", "I", true)
  | 2 => ("HatsDecide$Hat", "size", "I", true)
  | 3 => ("HatsDecide$Hat", "trade", "I", true)
  | 4 => ("HatsDecide$Hat", "this$0", "LHatsDecide;", true)
  | _ => ("HatsDecide$Crown", "this$0", "LHatsDecide;", true)
def tyX10 : Nat → FieldType := fun k => match k with
  | 0 => .int
  | 1 => .int
  | 2 => .int
  | 3 => .int
  | 4 => .object "HatsDecide"
  | _ => .object "HatsDecide"
abbrev wsX100 : List Cond := u_ws RX10 TX10 6
-- two fields of one name: no nmX10
theorem tyX10_ok : ∀ k, k < 6 → parseFieldDescriptor (TX10 k).2.2.1 = some (tyX10 k) := by decide +kernel
abbrev cX10_init : ByteArray := prog_4_method_1_code
def yX10_init : MethodName := ⟨RX10, "<init>", "(LHatsDecide;IIII)V"⟩
def dkwX10_init_0 : List UInt8 := [42, 43, 181, 0, 3, 42, 43, 28, 29, 21, 4, 21, 5, 183, 0, 9, 177]
abbrev dktX10_init_0 : List UInt8 := dkwX10_init_0 ++ []
theorem dksX10_init_0 : cX10_init.data.toList.drop 0 = dktX10_init_0 := by decide +kernel
theorem dX10_init_0 : decode cX10_init 0 = .ok (.aload_n 0, 1) := dk_42 (dk_at dksX10_init_0 0 rfl rfl)
theorem dX10_init_1 : decode cX10_init 1 = .ok (.aload_n 1, 1) := dk_43 (dk_at dksX10_init_0 1 rfl rfl)
theorem dX10_init_2 : decode cX10_init 2 = .ok (.putfield 3, 3) := dk_181 0 3 (dk_at dksX10_init_0 2 rfl rfl)
theorem dX10_init_5 : decode cX10_init 5 = .ok (.aload_n 0, 1) := dk_42 (dk_at dksX10_init_0 5 rfl rfl)
theorem dX10_init_6 : decode cX10_init 6 = .ok (.aload_n 1, 1) := dk_43 (dk_at dksX10_init_0 6 rfl rfl)
theorem dX10_init_7 : decode cX10_init 7 = .ok (.iload_n 2, 1) := dk_28 (dk_at dksX10_init_0 7 rfl rfl)
theorem dX10_init_8 : decode cX10_init 8 = .ok (.iload_n 3, 1) := dk_29 (dk_at dksX10_init_0 8 rfl rfl)
theorem dX10_init_9 : decode cX10_init 9 = .ok (.iload 4, 2) := dk_21 4 (dk_at dksX10_init_0 9 rfl rfl)
theorem dX10_init_11 : decode cX10_init 11 = .ok (.iload 5, 2) := dk_21 5 (dk_at dksX10_init_0 11 rfl rfl)
theorem dX10_init_13 : decode cX10_init 13 = .ok (.invokespecial 9, 3) := dk_183 0 9 (dk_at dksX10_init_0 13 rfl rfl)
theorem dX10_init_16 : decode cX10_init 16 = .ok (.return_, 1) := dk_177 (dk_at dksX10_init_0 16 rfl rfl)
abbrev cX10_kind : ByteArray := prog_4_method_2_code
def yX10_kind : MethodName := ⟨RX10, "kind", "()I"⟩
theorem dX10_kind_0 : decode cX10_kind 0 = .ok (.iconst 3, 1) := by decide +kernel
theorem dX10_kind_1 : decode cX10_kind 1 = .ok (.ireturn, 1) := by decide +kernel
abbrev cX10_deed : ByteArray := prog_4_method_3_code
def yX10_deed : MethodName := ⟨RX10, "deed", "(IIII)I"⟩
def dkwX10_deed_0 : List UInt8 := [42, 27, 28, 29, 21, 4, 183, 0, 15, 42, 180, 0, 19, 96, 172]
abbrev dktX10_deed_0 : List UInt8 := dkwX10_deed_0 ++ []
theorem dksX10_deed_0 : cX10_deed.data.toList.drop 0 = dktX10_deed_0 := by decide +kernel
theorem dX10_deed_0 : decode cX10_deed 0 = .ok (.aload_n 0, 1) := dk_42 (dk_at dksX10_deed_0 0 rfl rfl)
theorem dX10_deed_1 : decode cX10_deed 1 = .ok (.iload_n 1, 1) := dk_27 (dk_at dksX10_deed_0 1 rfl rfl)
theorem dX10_deed_2 : decode cX10_deed 2 = .ok (.iload_n 2, 1) := dk_28 (dk_at dksX10_deed_0 2 rfl rfl)
theorem dX10_deed_3 : decode cX10_deed 3 = .ok (.iload_n 3, 1) := dk_29 (dk_at dksX10_deed_0 3 rfl rfl)
theorem dX10_deed_4 : decode cX10_deed 4 = .ok (.iload 4, 2) := dk_21 4 (dk_at dksX10_deed_0 4 rfl rfl)
theorem dX10_deed_6 : decode cX10_deed 6 = .ok (.invokespecial 15, 3) := dk_183 0 15 (dk_at dksX10_deed_0 6 rfl rfl)
theorem dX10_deed_9 : decode cX10_deed 9 = .ok (.aload_n 0, 1) := dk_42 (dk_at dksX10_deed_0 9 rfl rfl)
theorem dX10_deed_10 : decode cX10_deed 10 = .ok (.getfield 19, 3) := dk_180 0 19 (dk_at dksX10_deed_0 10 rfl rfl)
theorem dX10_deed_13 : decode cX10_deed 13 = .ok (.iadd, 1) := dk_96 (dk_at dksX10_deed_0 13 rfl rfl)
theorem dX10_deed_14 : decode cX10_deed 14 = .ok (.ireturn, 1) := dk_172 (dk_at dksX10_deed_0 14 rfl rfl)
abbrev cX10_tells : ByteArray := prog_4_method_4_code
def yX10_tells : MethodName := ⟨RX10, "tells", "(I)I"⟩
def dkwX10_tells_1 : List UInt8 := [96, 172]
abbrev dktX10_tells_1 : List UInt8 := dkwX10_tells_1 ++ []
def dkwX10_tells_0 : List UInt8 := [42, 180, 0, 3, 180, 0, 23, 16, 40, 182, 0, 27, 42, 27, 183, 0, 33, 61, 28, 42, 4, 182, 0, 37]
abbrev dktX10_tells_0 : List UInt8 := dkwX10_tells_0 ++ dktX10_tells_1
theorem dksX10_tells_0 : cX10_tells.data.toList.drop 0 = dktX10_tells_0 := by decide +kernel
theorem dksX10_tells_1 : cX10_tells.data.toList.drop 24 = dktX10_tells_1 := dk_seg dksX10_tells_0 24 rfl rfl
theorem dX10_tells_0 : decode cX10_tells 0 = .ok (.aload_n 0, 1) := dk_42 (dk_at dksX10_tells_0 0 rfl rfl)
theorem dX10_tells_1 : decode cX10_tells 1 = .ok (.getfield 3, 3) := dk_180 0 3 (dk_at dksX10_tells_0 1 rfl rfl)
theorem dX10_tells_4 : decode cX10_tells 4 = .ok (.getfield 23, 3) := dk_180 0 23 (dk_at dksX10_tells_0 4 rfl rfl)
theorem dX10_tells_7 : decode cX10_tells 7 = .ok (.bipush 40, 2) := dk_16 40 (dk_at dksX10_tells_0 7 rfl rfl)
theorem dX10_tells_9 : decode cX10_tells 9 = .ok (.invokevirtual 27, 3) := dk_182 0 27 (dk_at dksX10_tells_0 9 rfl rfl)
theorem dX10_tells_12 : decode cX10_tells 12 = .ok (.aload_n 0, 1) := dk_42 (dk_at dksX10_tells_0 12 rfl rfl)
theorem dX10_tells_13 : decode cX10_tells 13 = .ok (.iload_n 1, 1) := dk_27 (dk_at dksX10_tells_0 13 rfl rfl)
theorem dX10_tells_14 : decode cX10_tells 14 = .ok (.invokespecial 33, 3) := dk_183 0 33 (dk_at dksX10_tells_0 14 rfl rfl)
theorem dX10_tells_17 : decode cX10_tells 17 = .ok (.istore_n 2, 1) := dk_61 (dk_at dksX10_tells_0 17 rfl rfl)
theorem dX10_tells_18 : decode cX10_tells 18 = .ok (.iload_n 2, 1) := dk_28 (dk_at dksX10_tells_0 18 rfl rfl)
theorem dX10_tells_19 : decode cX10_tells 19 = .ok (.aload_n 0, 1) := dk_42 (dk_at dksX10_tells_0 19 rfl rfl)
theorem dX10_tells_20 : decode cX10_tells 20 = .ok (.iconst 1, 1) := dk_4 (dk_at dksX10_tells_0 20 rfl rfl)
theorem dX10_tells_21 : decode cX10_tells 21 = .ok (.invokevirtual 37, 3) := dk_182 0 37 (dk_at dksX10_tells_0 21 rfl rfl)
theorem dX10_tells_24 : decode cX10_tells 24 = .ok (.iadd, 1) := dk_96 (dk_at dksX10_tells_1 0 rfl rfl)
theorem dX10_tells_25 : decode cX10_tells 25 = .ok (.ireturn, 1) := dk_172 (dk_at dksX10_tells_1 1 rfl rfl)
theorem q109 : (Jvm.Cond.initialized "HatsDecide$Crown") ∈ lw_all := lw_g (lw_at lw_m1 14 rfl) rfl
theorem q302 : (Jvm.Cond.fieldLinkNest "HatsDecide$Crown" (23 : Nat) "HatsDecide" "trace" "LHatsDecide$Trace;" "HatsDecide") ∈ lw_tbl := lw_at lw_m1 207 rfl
theorem q443 : (Jvm.Cond.fieldLink "HatsDecide$Crown" (19 : Nat) "HatsDecide$Crown" "v" "I") ∈ lw_all := lw_g (lw_at lw_m2 108 rfl) rfl
theorem q444 : (Jvm.Cond.sameField "HatsDecide$Crown" "HatsDecide$Hat" "v" "I") ∈ lw_all := lw_g (lw_at lw_m2 109 rfl) rfl
theorem q488 : (Jvm.Cond.instantiable "HatsDecide$Crown" (6 : Nat)) ∈ lw_all := lw_g (lw_at lw_m2 153 rfl) rfl
theorem q490 : (Jvm.Cond.instanceMethod ({ cls := "HatsDecide$Crown", name := "<init>", desc := "(LHatsDecide;IIII)V" } : Jvm.MethodName)) ∈ lw_all := lw_g (lw_at lw_m2 155 rfl) rfl
theorem q491 : (Jvm.Cond.code ({ cls := "HatsDecide$Crown", name := "<init>", desc := "(LHatsDecide;IIII)V" } : Jvm.MethodName) prog_4_method_1_code (6 : Nat) (Option.none : Option Jvm.ClassFile.FieldType)) ∈ lw_all := lw_g (lw_at lw_m2 156 rfl) rfl
theorem q492 : (Jvm.Cond.methodLink "HatsDecide$Crown" (9 : Nat) ({ cls := "HatsDecide$Hat", name := "<init>", desc := "(LHatsDecide;IIII)V" } : Jvm.MethodName)) ∈ lw_all := lw_g (lw_at lw_m2 157 rfl) rfl
theorem q493 : (Jvm.Cond.fieldLink "HatsDecide$Crown" (3 : Nat) "HatsDecide$Crown" "this$0" "LHatsDecide;") ∈ lw_all := lw_g (lw_at lw_m2 158 rfl) rfl
theorem q494 : (Jvm.Cond.laysFinal "HatsDecide$Crown" "HatsDecide$Crown" "this$0" "LHatsDecide;") ∈ lw_all := lw_g (lw_at lw_m2 159 rfl) rfl
theorem q495 : (Jvm.Cond.soleField "HatsDecide$Crown" "this$0") ∈ lw_all := lw_g (lw_at lw_m2 160 rfl) rfl
theorem q496 : (Jvm.Cond.laysFinal "HatsDecide$Crown" "HatsDecide$Hat" "number" "I") ∈ lw_all := lw_g (lw_at lw_m2 161 rfl) rfl
theorem q497 : (Jvm.Cond.laysFinal "HatsDecide$Crown" "HatsDecide$Hat" "v" "I") ∈ lw_all := lw_g (lw_at lw_m2 162 rfl) rfl
theorem q498 : (Jvm.Cond.laysFinal "HatsDecide$Crown" "HatsDecide$Hat" "size" "I") ∈ lw_all := lw_g (lw_at lw_m2 163 rfl) rfl
theorem q499 : (Jvm.Cond.laysFinal "HatsDecide$Crown" "HatsDecide$Hat" "trade" "I") ∈ lw_all := lw_g (lw_at lw_m2 164 rfl) rfl
theorem q500 : (Jvm.Cond.laysFinal "HatsDecide$Crown" "HatsDecide$Hat" "this$0" "LHatsDecide;") ∈ lw_all := lw_g (lw_at lw_m2 165 rfl) rfl
theorem q501 : (Jvm.Cond.superclass "HatsDecide$Crown" "HatsDecide$Hat") ∈ lw_all := lw_g (lw_at lw_m2 166 rfl) rfl
theorem q574 : (Jvm.Cond.selects "HatsDecide$Crown" ({ cls := "HatsDecide$Hat", name := "kind", desc := "()I" } : Jvm.MethodName) ({ cls := "HatsDecide$Crown", name := "kind", desc := "()I" } : Jvm.MethodName)) ∈ lw_all := lw_g (lw_at lw_m2 239 rfl) rfl
theorem q575 : (Jvm.Cond.instanceMethod ({ cls := "HatsDecide$Crown", name := "kind", desc := "()I" } : Jvm.MethodName)) ∈ lw_all := lw_g (lw_at lw_m3 0 rfl) rfl
theorem q576 : (Jvm.Cond.code ({ cls := "HatsDecide$Crown", name := "kind", desc := "()I" } : Jvm.MethodName) prog_4_method_2_code (1 : Nat) (Option.some Jvm.ClassFile.FieldType.int)) ∈ lw_all := lw_g (lw_at lw_m3 1 rfl) rfl
theorem q656 : (Jvm.Cond.selects "HatsDecide$Crown" ({ cls := "HatsDecide$Hat", name := "deed", desc := "(IIII)I" } : Jvm.MethodName) ({ cls := "HatsDecide$Crown", name := "deed", desc := "(IIII)I" } : Jvm.MethodName)) ∈ lw_all := lw_g (lw_at lw_m3 81 rfl) rfl
theorem q657 : (Jvm.Cond.instanceMethod ({ cls := "HatsDecide$Crown", name := "deed", desc := "(IIII)I" } : Jvm.MethodName)) ∈ lw_all := lw_g (lw_at lw_m3 82 rfl) rfl
theorem q658 : (Jvm.Cond.code ({ cls := "HatsDecide$Crown", name := "deed", desc := "(IIII)I" } : Jvm.MethodName) prog_4_method_3_code (5 : Nat) (Option.some Jvm.ClassFile.FieldType.int)) ∈ lw_all := lw_g (lw_at lw_m3 83 rfl) rfl
theorem q659 : (Jvm.Cond.methodLink "HatsDecide$Crown" (15 : Nat) ({ cls := "HatsDecide$Hat", name := "deed", desc := "(IIII)I" } : Jvm.MethodName)) ∈ lw_all := lw_g (lw_at lw_m3 84 rfl) rfl
theorem q1003 : (Jvm.Cond.selects "HatsDecide$Crown" ({ cls := "java/lang/Object", name := "getClass", desc := "()Ljava/lang/Class;" } : Jvm.MethodName) ({ cls := "java/lang/Object", name := "getClass", desc := "()Ljava/lang/Class;" } : Jvm.MethodName)) ∈ lw_all := lw_g (lw_at lw_m4 188 rfl) rfl
theorem q1315 : (Jvm.Cond.selects "HatsDecide$Crown" ({ cls := "HatsDecide$Hat", name := "sits", desc := "(I)I" } : Jvm.MethodName) ({ cls := "HatsDecide$Hat", name := "sits", desc := "(I)I" } : Jvm.MethodName)) ∈ lw_all := lw_g (lw_at lw_m6 20 rfl) rfl
theorem q1337 : (Jvm.Cond.sameMethod "HatsDecide$Crown" "HatsDecide$Hat" "sits" "(I)I") ∈ lw_all := lw_g (lw_at lw_m6 42 rfl) rfl
theorem q1345 : (Jvm.Cond.selects "HatsDecide$Crown" ({ cls := "HatsDecide$Hat", name := "does", desc := "(I)I" } : Jvm.MethodName) ({ cls := "HatsDecide$Hat", name := "does", desc := "(I)I" } : Jvm.MethodName)) ∈ lw_all := lw_g (lw_at lw_m6 50 rfl) rfl
theorem q1360 : (Jvm.Cond.sameMethod "HatsDecide$Crown" "HatsDecide$Hat" "does" "(I)I") ∈ lw_all := lw_g (lw_at lw_m6 65 rfl) rfl
theorem q1369 : (Jvm.Cond.selects "HatsDecide$Crown" ({ cls := "HatsDecide$Hat", name := "tells", desc := "(I)I" } : Jvm.MethodName) ({ cls := "HatsDecide$Crown", name := "tells", desc := "(I)I" } : Jvm.MethodName)) ∈ lw_all := lw_g (lw_at lw_m6 74 rfl) rfl
theorem q1370 : (Jvm.Cond.instanceMethod ({ cls := "HatsDecide$Crown", name := "tells", desc := "(I)I" } : Jvm.MethodName)) ∈ lw_all := lw_g (lw_at lw_m6 75 rfl) rfl
theorem q1371 : (Jvm.Cond.code ({ cls := "HatsDecide$Crown", name := "tells", desc := "(I)I" } : Jvm.MethodName) prog_4_method_4_code (3 : Nat) (Option.some Jvm.ClassFile.FieldType.int)) ∈ lw_all := lw_g (lw_at lw_m6 76 rfl) rfl
theorem q1372 : (Jvm.Cond.methodLink "HatsDecide$Crown" (27 : Nat) ({ cls := "HatsDecide$Trace", name := "ran", desc := "(I)V" } : Jvm.MethodName)) ∈ lw_all := lw_g (lw_at lw_m6 77 rfl) rfl
theorem q1373 : (Jvm.Cond.methodLink "HatsDecide$Crown" (33 : Nat) ({ cls := "HatsDecide$Hat", name := "tells", desc := "(I)I" } : Jvm.MethodName)) ∈ lw_all := lw_g (lw_at lw_m6 78 rfl) rfl
theorem q1374 : (Jvm.Cond.methodLink "HatsDecide$Crown" (37 : Nat) ({ cls := "HatsDecide$Crown", name := "does", desc := "(I)I" } : Jvm.MethodName)) ∈ lw_all := lw_g (lw_at lw_m6 79 rfl) rfl
theorem q1375 : (Jvm.Cond.selects "HatsDecide$Crown" ({ cls := "HatsDecide$Crown", name := "does", desc := "(I)I" } : Jvm.MethodName) ({ cls := "HatsDecide$Hat", name := "does", desc := "(I)I" } : Jvm.MethodName)) ∈ lw_all := lw_g (lw_at lw_m6 80 rfl) rfl
theorem q2158 : (Jvm.Cond.sameMethod "HatsDecide$Crown" "HatsDecide$Crown" "deed" "(IIII)I") ∈ lw_all := lw_g (lw_at lw_m9 143 rfl) rfl
theorem q2165 : (Jvm.Cond.castable "HatsDecide$Crown" "HatsDecide$Hat") ∈ lw_tbl := lw_at lw_m9 150 rfl
theorem q2185 : (Jvm.Cond.castable "HatsDecide$Crown" "java/lang/Object") ∈ lw_tbl := lw_at lw_m9 170 rfl
theorem in_X10 : ∀ w ∈ wsX100, w ∈ lw_all := lw_in wsX100 [496, 497, 498, 499, 500, 494] (by decide +kernel) (by decide +kernel)

/-! HatsDecide$Stiff -/
set_option maxRecDepth 100000
def RX11 : String := "HatsDecide$Stiff"
def TX11 : u_T := fun k => match k with
  | 0 => ("HatsDecide$Hat", "number", "I", true)
  | 1 => ("HatsDecide$Hat", "v", "I", true)
  | 2 => ("HatsDecide$Hat", "size", "I", true)
  | 3 => ("HatsDecide$Hat", "trade", "I", true)
  | 4 => ("HatsDecide$Hat", "this$0", "LHatsDecide;", true)
  | 5 => ("HatsDecide$Tight", "this$0", "LHatsDecide;", true)
  | _ => ("HatsDecide$Stiff", "this$0", "LHatsDecide;", true)
def tyX11 : Nat → FieldType := fun k => match k with
  | 0 => .int
  | 1 => .int
  | 2 => .int
  | 3 => .int
  | 4 => .object "HatsDecide"
  | 5 => .object "HatsDecide"
  | _ => .object "HatsDecide"
abbrev wsX110 : List Cond := u_ws RX11 TX11 7
-- two fields of one name: no nmX11
theorem tyX11_ok : ∀ k, k < 7 → parseFieldDescriptor (TX11 k).2.2.1 = some (tyX11 k) := by decide +kernel
abbrev cX11_init : ByteArray := prog_12_method_1_code
def yX11_init : MethodName := ⟨RX11, "<init>", "(LHatsDecide;IIII)V"⟩
def dkwX11_init_0 : List UInt8 := [42, 43, 181, 0, 3, 42, 43, 28, 29, 21, 4, 21, 5, 183, 0, 9, 177]
abbrev dktX11_init_0 : List UInt8 := dkwX11_init_0 ++ []
theorem dksX11_init_0 : cX11_init.data.toList.drop 0 = dktX11_init_0 := by decide +kernel
theorem dX11_init_0 : decode cX11_init 0 = .ok (.aload_n 0, 1) := dk_42 (dk_at dksX11_init_0 0 rfl rfl)
theorem dX11_init_1 : decode cX11_init 1 = .ok (.aload_n 1, 1) := dk_43 (dk_at dksX11_init_0 1 rfl rfl)
theorem dX11_init_2 : decode cX11_init 2 = .ok (.putfield 3, 3) := dk_181 0 3 (dk_at dksX11_init_0 2 rfl rfl)
theorem dX11_init_5 : decode cX11_init 5 = .ok (.aload_n 0, 1) := dk_42 (dk_at dksX11_init_0 5 rfl rfl)
theorem dX11_init_6 : decode cX11_init 6 = .ok (.aload_n 1, 1) := dk_43 (dk_at dksX11_init_0 6 rfl rfl)
theorem dX11_init_7 : decode cX11_init 7 = .ok (.iload_n 2, 1) := dk_28 (dk_at dksX11_init_0 7 rfl rfl)
theorem dX11_init_8 : decode cX11_init 8 = .ok (.iload_n 3, 1) := dk_29 (dk_at dksX11_init_0 8 rfl rfl)
theorem dX11_init_9 : decode cX11_init 9 = .ok (.iload 4, 2) := dk_21 4 (dk_at dksX11_init_0 9 rfl rfl)
theorem dX11_init_11 : decode cX11_init 11 = .ok (.iload 5, 2) := dk_21 5 (dk_at dksX11_init_0 11 rfl rfl)
theorem dX11_init_13 : decode cX11_init 13 = .ok (.invokespecial 9, 3) := dk_183 0 9 (dk_at dksX11_init_0 13 rfl rfl)
theorem dX11_init_16 : decode cX11_init 16 = .ok (.return_, 1) := dk_177 (dk_at dksX11_init_0 16 rfl rfl)
abbrev cX11_kind : ByteArray := prog_12_method_2_code
def yX11_kind : MethodName := ⟨RX11, "kind", "()I"⟩
theorem dX11_kind_0 : decode cX11_kind 0 = .ok (.iconst 4, 1) := by decide +kernel
theorem dX11_kind_1 : decode cX11_kind 1 = .ok (.ireturn, 1) := by decide +kernel
abbrev cX11_deed : ByteArray := prog_12_method_3_code
def yX11_deed : MethodName := ⟨RX11, "deed", "(IIII)I"⟩
def dkwX11_deed_0 : List UInt8 := [42, 180, 0, 15, 28, 160, 0, 15, 42, 27, 28, 29, 21, 4, 183, 0, 19, 167, 0, 4, 3, 172]
abbrev dktX11_deed_0 : List UInt8 := dkwX11_deed_0 ++ []
theorem dksX11_deed_0 : cX11_deed.data.toList.drop 0 = dktX11_deed_0 := by decide +kernel
theorem dX11_deed_0 : decode cX11_deed 0 = .ok (.aload_n 0, 1) := dk_42 (dk_at dksX11_deed_0 0 rfl rfl)
theorem dX11_deed_1 : decode cX11_deed 1 = .ok (.getfield 15, 3) := dk_180 0 15 (dk_at dksX11_deed_0 1 rfl rfl)
theorem dX11_deed_4 : decode cX11_deed 4 = .ok (.iload_n 2, 1) := dk_28 (dk_at dksX11_deed_0 4 rfl rfl)
theorem dX11_deed_5 : decode cX11_deed 5 = .ok (.if_icmp .ne 15, 3) := dk_160 0 15 (dk_at dksX11_deed_0 5 rfl rfl)
theorem dX11_deed_8 : decode cX11_deed 8 = .ok (.aload_n 0, 1) := dk_42 (dk_at dksX11_deed_0 8 rfl rfl)
theorem dX11_deed_9 : decode cX11_deed 9 = .ok (.iload_n 1, 1) := dk_27 (dk_at dksX11_deed_0 9 rfl rfl)
theorem dX11_deed_10 : decode cX11_deed 10 = .ok (.iload_n 2, 1) := dk_28 (dk_at dksX11_deed_0 10 rfl rfl)
theorem dX11_deed_11 : decode cX11_deed 11 = .ok (.iload_n 3, 1) := dk_29 (dk_at dksX11_deed_0 11 rfl rfl)
theorem dX11_deed_12 : decode cX11_deed 12 = .ok (.iload 4, 2) := dk_21 4 (dk_at dksX11_deed_0 12 rfl rfl)
theorem dX11_deed_14 : decode cX11_deed 14 = .ok (.invokespecial 19, 3) := dk_183 0 19 (dk_at dksX11_deed_0 14 rfl rfl)
theorem dX11_deed_17 : decode cX11_deed 17 = .ok (.goto 4, 3) := dk_167 0 4 (dk_at dksX11_deed_0 17 rfl rfl)
theorem dX11_deed_20 : decode cX11_deed 20 = .ok (.iconst 0, 1) := dk_3 (dk_at dksX11_deed_0 20 rfl rfl)
theorem dX11_deed_21 : decode cX11_deed 21 = .ok (.ireturn, 1) := dk_172 (dk_at dksX11_deed_0 21 rfl rfl)
abbrev cX11_sits : ByteArray := prog_12_method_4_code
def yX11_sits : MethodName := ⟨RX11, "sits", "(I)I"⟩
def dkwX11_sits_0 : List UInt8 := [42, 180, 0, 3, 180, 0, 23, 16, 50, 182, 0, 27, 42, 27, 183, 0, 33, 116, 172]
abbrev dktX11_sits_0 : List UInt8 := dkwX11_sits_0 ++ []
theorem dksX11_sits_0 : cX11_sits.data.toList.drop 0 = dktX11_sits_0 := by decide +kernel
theorem dX11_sits_0 : decode cX11_sits 0 = .ok (.aload_n 0, 1) := dk_42 (dk_at dksX11_sits_0 0 rfl rfl)
theorem dX11_sits_1 : decode cX11_sits 1 = .ok (.getfield 3, 3) := dk_180 0 3 (dk_at dksX11_sits_0 1 rfl rfl)
theorem dX11_sits_4 : decode cX11_sits 4 = .ok (.getfield 23, 3) := dk_180 0 23 (dk_at dksX11_sits_0 4 rfl rfl)
theorem dX11_sits_7 : decode cX11_sits 7 = .ok (.bipush 50, 2) := dk_16 50 (dk_at dksX11_sits_0 7 rfl rfl)
theorem dX11_sits_9 : decode cX11_sits 9 = .ok (.invokevirtual 27, 3) := dk_182 0 27 (dk_at dksX11_sits_0 9 rfl rfl)
theorem dX11_sits_12 : decode cX11_sits 12 = .ok (.aload_n 0, 1) := dk_42 (dk_at dksX11_sits_0 12 rfl rfl)
theorem dX11_sits_13 : decode cX11_sits 13 = .ok (.iload_n 1, 1) := dk_27 (dk_at dksX11_sits_0 13 rfl rfl)
theorem dX11_sits_14 : decode cX11_sits 14 = .ok (.invokespecial 33, 3) := dk_183 0 33 (dk_at dksX11_sits_0 14 rfl rfl)
theorem dX11_sits_17 : decode cX11_sits 17 = .ok (.ineg, 1) := dk_116 (dk_at dksX11_sits_0 17 rfl rfl)
theorem dX11_sits_18 : decode cX11_sits 18 = .ok (.ireturn, 1) := dk_172 (dk_at dksX11_sits_0 18 rfl rfl)
abbrev cX11_does : ByteArray := prog_12_method_5_code
def yX11_does : MethodName := ⟨RX11, "does", "(I)I"⟩
def dkwX11_does_0 : List UInt8 := [42, 180, 0, 3, 180, 0, 23, 16, 51, 182, 0, 27, 42, 27, 4, 96, 183, 0, 37, 172]
abbrev dktX11_does_0 : List UInt8 := dkwX11_does_0 ++ []
theorem dksX11_does_0 : cX11_does.data.toList.drop 0 = dktX11_does_0 := by decide +kernel
theorem dX11_does_0 : decode cX11_does 0 = .ok (.aload_n 0, 1) := dk_42 (dk_at dksX11_does_0 0 rfl rfl)
theorem dX11_does_1 : decode cX11_does 1 = .ok (.getfield 3, 3) := dk_180 0 3 (dk_at dksX11_does_0 1 rfl rfl)
theorem dX11_does_4 : decode cX11_does 4 = .ok (.getfield 23, 3) := dk_180 0 23 (dk_at dksX11_does_0 4 rfl rfl)
theorem dX11_does_7 : decode cX11_does 7 = .ok (.bipush 51, 2) := dk_16 51 (dk_at dksX11_does_0 7 rfl rfl)
theorem dX11_does_9 : decode cX11_does 9 = .ok (.invokevirtual 27, 3) := dk_182 0 27 (dk_at dksX11_does_0 9 rfl rfl)
theorem dX11_does_12 : decode cX11_does 12 = .ok (.aload_n 0, 1) := dk_42 (dk_at dksX11_does_0 12 rfl rfl)
theorem dX11_does_13 : decode cX11_does 13 = .ok (.iload_n 1, 1) := dk_27 (dk_at dksX11_does_0 13 rfl rfl)
theorem dX11_does_14 : decode cX11_does 14 = .ok (.iconst 1, 1) := dk_4 (dk_at dksX11_does_0 14 rfl rfl)
theorem dX11_does_15 : decode cX11_does 15 = .ok (.iadd, 1) := dk_96 (dk_at dksX11_does_0 15 rfl rfl)
theorem dX11_does_16 : decode cX11_does 16 = .ok (.invokespecial 37, 3) := dk_183 0 37 (dk_at dksX11_does_0 16 rfl rfl)
theorem dX11_does_19 : decode cX11_does 19 = .ok (.ireturn, 1) := dk_172 (dk_at dksX11_does_0 19 rfl rfl)
theorem q110 : (Jvm.Cond.initialized "HatsDecide$Stiff") ∈ lw_all := lw_g (lw_at lw_m1 15 rfl) rfl
theorem q299 : (Jvm.Cond.fieldLinkNest "HatsDecide$Stiff" (23 : Nat) "HatsDecide" "trace" "LHatsDecide$Trace;" "HatsDecide") ∈ lw_tbl := lw_at lw_m1 204 rfl
theorem q451 : (Jvm.Cond.fieldLink "HatsDecide$Stiff" (15 : Nat) "HatsDecide$Stiff" "size" "I") ∈ lw_all := lw_g (lw_at lw_m2 116 rfl) rfl
theorem q452 : (Jvm.Cond.sameField "HatsDecide$Stiff" "HatsDecide$Hat" "size" "I") ∈ lw_all := lw_g (lw_at lw_m2 117 rfl) rfl
theorem q503 : (Jvm.Cond.instantiable "HatsDecide$Stiff" (7 : Nat)) ∈ lw_all := lw_g (lw_at lw_m2 168 rfl) rfl
theorem q505 : (Jvm.Cond.instanceMethod ({ cls := "HatsDecide$Stiff", name := "<init>", desc := "(LHatsDecide;IIII)V" } : Jvm.MethodName)) ∈ lw_all := lw_g (lw_at lw_m2 170 rfl) rfl
theorem q506 : (Jvm.Cond.code ({ cls := "HatsDecide$Stiff", name := "<init>", desc := "(LHatsDecide;IIII)V" } : Jvm.MethodName) prog_12_method_1_code (6 : Nat) (Option.none : Option Jvm.ClassFile.FieldType)) ∈ lw_all := lw_g (lw_at lw_m2 171 rfl) rfl
theorem q507 : (Jvm.Cond.methodLink "HatsDecide$Stiff" (9 : Nat) ({ cls := "HatsDecide$Tight", name := "<init>", desc := "(LHatsDecide;IIII)V" } : Jvm.MethodName)) ∈ lw_all := lw_g (lw_at lw_m2 172 rfl) rfl
theorem q508 : (Jvm.Cond.fieldLink "HatsDecide$Stiff" (3 : Nat) "HatsDecide$Stiff" "this$0" "LHatsDecide;") ∈ lw_all := lw_g (lw_at lw_m2 173 rfl) rfl
theorem q509 : (Jvm.Cond.laysFinal "HatsDecide$Stiff" "HatsDecide$Stiff" "this$0" "LHatsDecide;") ∈ lw_all := lw_g (lw_at lw_m2 174 rfl) rfl
theorem q510 : (Jvm.Cond.soleField "HatsDecide$Stiff" "this$0") ∈ lw_all := lw_g (lw_at lw_m2 175 rfl) rfl
theorem q511 : (Jvm.Cond.laysFinal "HatsDecide$Stiff" "HatsDecide$Tight" "this$0" "LHatsDecide;") ∈ lw_all := lw_g (lw_at lw_m2 176 rfl) rfl
theorem q512 : (Jvm.Cond.laysFinal "HatsDecide$Stiff" "HatsDecide$Hat" "number" "I") ∈ lw_all := lw_g (lw_at lw_m2 177 rfl) rfl
theorem q513 : (Jvm.Cond.laysFinal "HatsDecide$Stiff" "HatsDecide$Hat" "v" "I") ∈ lw_all := lw_g (lw_at lw_m2 178 rfl) rfl
theorem q514 : (Jvm.Cond.laysFinal "HatsDecide$Stiff" "HatsDecide$Hat" "size" "I") ∈ lw_all := lw_g (lw_at lw_m2 179 rfl) rfl
theorem q515 : (Jvm.Cond.laysFinal "HatsDecide$Stiff" "HatsDecide$Hat" "trade" "I") ∈ lw_all := lw_g (lw_at lw_m2 180 rfl) rfl
theorem q516 : (Jvm.Cond.laysFinal "HatsDecide$Stiff" "HatsDecide$Hat" "this$0" "LHatsDecide;") ∈ lw_all := lw_g (lw_at lw_m2 181 rfl) rfl
theorem q517 : (Jvm.Cond.superclass "HatsDecide$Stiff" "HatsDecide$Tight") ∈ lw_all := lw_g (lw_at lw_m2 182 rfl) rfl
theorem q580 : (Jvm.Cond.selects "HatsDecide$Stiff" ({ cls := "HatsDecide$Hat", name := "kind", desc := "()I" } : Jvm.MethodName) ({ cls := "HatsDecide$Stiff", name := "kind", desc := "()I" } : Jvm.MethodName)) ∈ lw_all := lw_g (lw_at lw_m3 5 rfl) rfl
theorem q581 : (Jvm.Cond.instanceMethod ({ cls := "HatsDecide$Stiff", name := "kind", desc := "()I" } : Jvm.MethodName)) ∈ lw_all := lw_g (lw_at lw_m3 6 rfl) rfl
theorem q582 : (Jvm.Cond.code ({ cls := "HatsDecide$Stiff", name := "kind", desc := "()I" } : Jvm.MethodName) prog_12_method_2_code (1 : Nat) (Option.some Jvm.ClassFile.FieldType.int)) ∈ lw_all := lw_g (lw_at lw_m3 7 rfl) rfl
theorem q671 : (Jvm.Cond.selects "HatsDecide$Stiff" ({ cls := "HatsDecide$Hat", name := "deed", desc := "(IIII)I" } : Jvm.MethodName) ({ cls := "HatsDecide$Stiff", name := "deed", desc := "(IIII)I" } : Jvm.MethodName)) ∈ lw_all := lw_g (lw_at lw_m3 96 rfl) rfl
theorem q672 : (Jvm.Cond.instanceMethod ({ cls := "HatsDecide$Stiff", name := "deed", desc := "(IIII)I" } : Jvm.MethodName)) ∈ lw_all := lw_g (lw_at lw_m3 97 rfl) rfl
theorem q673 : (Jvm.Cond.code ({ cls := "HatsDecide$Stiff", name := "deed", desc := "(IIII)I" } : Jvm.MethodName) prog_12_method_3_code (5 : Nat) (Option.some Jvm.ClassFile.FieldType.int)) ∈ lw_all := lw_g (lw_at lw_m3 98 rfl) rfl
theorem q674 : (Jvm.Cond.methodLink "HatsDecide$Stiff" (19 : Nat) ({ cls := "HatsDecide$Tight", name := "deed", desc := "(IIII)I" } : Jvm.MethodName)) ∈ lw_all := lw_g (lw_at lw_m3 99 rfl) rfl
theorem q1011 : (Jvm.Cond.selects "HatsDecide$Stiff" ({ cls := "java/lang/Object", name := "getClass", desc := "()Ljava/lang/Class;" } : Jvm.MethodName) ({ cls := "java/lang/Object", name := "getClass", desc := "()Ljava/lang/Class;" } : Jvm.MethodName)) ∈ lw_all := lw_g (lw_at lw_m4 196 rfl) rfl
theorem q1324 : (Jvm.Cond.selects "HatsDecide$Stiff" ({ cls := "HatsDecide$Hat", name := "sits", desc := "(I)I" } : Jvm.MethodName) ({ cls := "HatsDecide$Stiff", name := "sits", desc := "(I)I" } : Jvm.MethodName)) ∈ lw_all := lw_g (lw_at lw_m6 29 rfl) rfl
theorem q1325 : (Jvm.Cond.instanceMethod ({ cls := "HatsDecide$Stiff", name := "sits", desc := "(I)I" } : Jvm.MethodName)) ∈ lw_all := lw_g (lw_at lw_m6 30 rfl) rfl
theorem q1326 : (Jvm.Cond.code ({ cls := "HatsDecide$Stiff", name := "sits", desc := "(I)I" } : Jvm.MethodName) prog_12_method_4_code (2 : Nat) (Option.some Jvm.ClassFile.FieldType.int)) ∈ lw_all := lw_g (lw_at lw_m6 31 rfl) rfl
theorem q1327 : (Jvm.Cond.methodLink "HatsDecide$Stiff" (27 : Nat) ({ cls := "HatsDecide$Trace", name := "ran", desc := "(I)V" } : Jvm.MethodName)) ∈ lw_all := lw_g (lw_at lw_m6 32 rfl) rfl
theorem q1328 : (Jvm.Cond.methodLink "HatsDecide$Stiff" (33 : Nat) ({ cls := "HatsDecide$Tight", name := "sits", desc := "(I)I" } : Jvm.MethodName)) ∈ lw_all := lw_g (lw_at lw_m6 33 rfl) rfl
theorem q1347 : (Jvm.Cond.selects "HatsDecide$Stiff" ({ cls := "HatsDecide$Hat", name := "does", desc := "(I)I" } : Jvm.MethodName) ({ cls := "HatsDecide$Stiff", name := "does", desc := "(I)I" } : Jvm.MethodName)) ∈ lw_all := lw_g (lw_at lw_m6 52 rfl) rfl
theorem q1348 : (Jvm.Cond.instanceMethod ({ cls := "HatsDecide$Stiff", name := "does", desc := "(I)I" } : Jvm.MethodName)) ∈ lw_all := lw_g (lw_at lw_m6 53 rfl) rfl
theorem q1349 : (Jvm.Cond.code ({ cls := "HatsDecide$Stiff", name := "does", desc := "(I)I" } : Jvm.MethodName) prog_12_method_5_code (2 : Nat) (Option.some Jvm.ClassFile.FieldType.int)) ∈ lw_all := lw_g (lw_at lw_m6 54 rfl) rfl
theorem q1350 : (Jvm.Cond.methodLink "HatsDecide$Stiff" (37 : Nat) ({ cls := "HatsDecide$Tight", name := "does", desc := "(I)I" } : Jvm.MethodName)) ∈ lw_all := lw_g (lw_at lw_m6 55 rfl) rfl
theorem q1384 : (Jvm.Cond.selects "HatsDecide$Stiff" ({ cls := "HatsDecide$Hat", name := "tells", desc := "(I)I" } : Jvm.MethodName) ({ cls := "HatsDecide$Hat", name := "tells", desc := "(I)I" } : Jvm.MethodName)) ∈ lw_all := lw_g (lw_at lw_m6 89 rfl) rfl
theorem q2167 : (Jvm.Cond.castable "HatsDecide$Stiff" "HatsDecide$Hat") ∈ lw_tbl := lw_at lw_m9 152 rfl
theorem q2171 : (Jvm.Cond.castable "HatsDecide$Stiff" "HatsDecide$Tight") ∈ lw_tbl := lw_at lw_m9 156 rfl
theorem q2186 : (Jvm.Cond.castable "HatsDecide$Stiff" "java/lang/Object") ∈ lw_tbl := lw_at lw_m9 171 rfl
theorem in_X11 : ∀ w ∈ wsX110, w ∈ lw_all := lw_in wsX110 [512, 513, 514, 515, 516, 511, 509] (by decide +kernel) (by decide +kernel)

/-! HatsDecide$Frayed -/
set_option maxRecDepth 100000
def RX12 : String := "HatsDecide$Frayed"
def TX12 : u_T := fun k => match k with
  | 0 => ("HatsDecide$Hat", "number", "I", true)
  | 1 => ("HatsDecide$Hat", "v", "I", true)
  | 2 => ("HatsDecide$Hat", "size", "I", true)
  | 3 => ("HatsDecide$Hat", "trade", "I", true)
  | 4 => ("HatsDecide$Hat", "this$0", "LHatsDecide;", true)
  | 5 => ("HatsDecide$Worn", "this$0", "LHatsDecide;", true)
  | _ => ("HatsDecide$Frayed", "this$0", "LHatsDecide;", true)
def tyX12 : Nat → FieldType := fun k => match k with
  | 0 => .int
  | 1 => .int
  | 2 => .int
  | 3 => .int
  | 4 => .object "HatsDecide"
  | 5 => .object "HatsDecide"
  | _ => .object "HatsDecide"
abbrev wsX120 : List Cond := u_ws RX12 TX12 7
-- two fields of one name: no nmX12
theorem tyX12_ok : ∀ k, k < 7 → parseFieldDescriptor (TX12 k).2.2.1 = some (tyX12 k) := by decide +kernel
abbrev cX12_init : ByteArray := prog_5_method_1_code
def yX12_init : MethodName := ⟨RX12, "<init>", "(LHatsDecide;IIII)V"⟩
def dkwX12_init_0 : List UInt8 := [42, 43, 181, 0, 3, 42, 43, 28, 29, 21, 4, 21, 5, 183, 0, 9, 177]
abbrev dktX12_init_0 : List UInt8 := dkwX12_init_0 ++ []
theorem dksX12_init_0 : cX12_init.data.toList.drop 0 = dktX12_init_0 := by decide +kernel
theorem dX12_init_0 : decode cX12_init 0 = .ok (.aload_n 0, 1) := dk_42 (dk_at dksX12_init_0 0 rfl rfl)
theorem dX12_init_1 : decode cX12_init 1 = .ok (.aload_n 1, 1) := dk_43 (dk_at dksX12_init_0 1 rfl rfl)
theorem dX12_init_2 : decode cX12_init 2 = .ok (.putfield 3, 3) := dk_181 0 3 (dk_at dksX12_init_0 2 rfl rfl)
theorem dX12_init_5 : decode cX12_init 5 = .ok (.aload_n 0, 1) := dk_42 (dk_at dksX12_init_0 5 rfl rfl)
theorem dX12_init_6 : decode cX12_init 6 = .ok (.aload_n 1, 1) := dk_43 (dk_at dksX12_init_0 6 rfl rfl)
theorem dX12_init_7 : decode cX12_init 7 = .ok (.iload_n 2, 1) := dk_28 (dk_at dksX12_init_0 7 rfl rfl)
theorem dX12_init_8 : decode cX12_init 8 = .ok (.iload_n 3, 1) := dk_29 (dk_at dksX12_init_0 8 rfl rfl)
theorem dX12_init_9 : decode cX12_init 9 = .ok (.iload 4, 2) := dk_21 4 (dk_at dksX12_init_0 9 rfl rfl)
theorem dX12_init_11 : decode cX12_init 11 = .ok (.iload 5, 2) := dk_21 5 (dk_at dksX12_init_0 11 rfl rfl)
theorem dX12_init_13 : decode cX12_init 13 = .ok (.invokespecial 9, 3) := dk_183 0 9 (dk_at dksX12_init_0 13 rfl rfl)
theorem dX12_init_16 : decode cX12_init 16 = .ok (.return_, 1) := dk_177 (dk_at dksX12_init_0 16 rfl rfl)
abbrev cX12_kind : ByteArray := prog_5_method_2_code
def yX12_kind : MethodName := ⟨RX12, "kind", "()I"⟩
theorem dX12_kind_0 : decode cX12_kind 0 = .ok (.iconst 5, 1) := by decide +kernel
theorem dX12_kind_1 : decode cX12_kind 1 = .ok (.ireturn, 1) := by decide +kernel
abbrev cX12_deed : ByteArray := prog_5_method_3_code
def yX12_deed : MethodName := ⟨RX12, "deed", "(IIII)I"⟩
def dkwX12_deed_0 : List UInt8 := [3, 42, 27, 28, 29, 21, 4, 183, 0, 15, 42, 180, 0, 19, 100, 184, 0, 23, 172]
abbrev dktX12_deed_0 : List UInt8 := dkwX12_deed_0 ++ []
theorem dksX12_deed_0 : cX12_deed.data.toList.drop 0 = dktX12_deed_0 := by decide +kernel
theorem dX12_deed_0 : decode cX12_deed 0 = .ok (.iconst 0, 1) := dk_3 (dk_at dksX12_deed_0 0 rfl rfl)
theorem dX12_deed_1 : decode cX12_deed 1 = .ok (.aload_n 0, 1) := dk_42 (dk_at dksX12_deed_0 1 rfl rfl)
theorem dX12_deed_2 : decode cX12_deed 2 = .ok (.iload_n 1, 1) := dk_27 (dk_at dksX12_deed_0 2 rfl rfl)
theorem dX12_deed_3 : decode cX12_deed 3 = .ok (.iload_n 2, 1) := dk_28 (dk_at dksX12_deed_0 3 rfl rfl)
theorem dX12_deed_4 : decode cX12_deed 4 = .ok (.iload_n 3, 1) := dk_29 (dk_at dksX12_deed_0 4 rfl rfl)
theorem dX12_deed_5 : decode cX12_deed 5 = .ok (.iload 4, 2) := dk_21 4 (dk_at dksX12_deed_0 5 rfl rfl)
theorem dX12_deed_7 : decode cX12_deed 7 = .ok (.invokespecial 15, 3) := dk_183 0 15 (dk_at dksX12_deed_0 7 rfl rfl)
theorem dX12_deed_10 : decode cX12_deed 10 = .ok (.aload_n 0, 1) := dk_42 (dk_at dksX12_deed_0 10 rfl rfl)
theorem dX12_deed_11 : decode cX12_deed 11 = .ok (.getfield 19, 3) := dk_180 0 19 (dk_at dksX12_deed_0 11 rfl rfl)
theorem dX12_deed_14 : decode cX12_deed 14 = .ok (.isub, 1) := dk_100 (dk_at dksX12_deed_0 14 rfl rfl)
theorem dX12_deed_15 : decode cX12_deed 15 = .ok (.invokestatic 23, 3) := dk_184 0 23 (dk_at dksX12_deed_0 15 rfl rfl)
theorem dX12_deed_18 : decode cX12_deed 18 = .ok (.ireturn, 1) := dk_172 (dk_at dksX12_deed_0 18 rfl rfl)
abbrev cX12_tells : ByteArray := prog_5_method_4_code
def yX12_tells : MethodName := ⟨RX12, "tells", "(I)I"⟩
def dkwX12_tells_0 : List UInt8 := [42, 180, 0, 3, 180, 0, 29, 16, 60, 182, 0, 33, 42, 27, 42, 180, 0, 39, 100, 183, 0, 42, 172]
abbrev dktX12_tells_0 : List UInt8 := dkwX12_tells_0 ++ []
theorem dksX12_tells_0 : cX12_tells.data.toList.drop 0 = dktX12_tells_0 := by decide +kernel
theorem dX12_tells_0 : decode cX12_tells 0 = .ok (.aload_n 0, 1) := dk_42 (dk_at dksX12_tells_0 0 rfl rfl)
theorem dX12_tells_1 : decode cX12_tells 1 = .ok (.getfield 3, 3) := dk_180 0 3 (dk_at dksX12_tells_0 1 rfl rfl)
theorem dX12_tells_4 : decode cX12_tells 4 = .ok (.getfield 29, 3) := dk_180 0 29 (dk_at dksX12_tells_0 4 rfl rfl)
theorem dX12_tells_7 : decode cX12_tells 7 = .ok (.bipush 60, 2) := dk_16 60 (dk_at dksX12_tells_0 7 rfl rfl)
theorem dX12_tells_9 : decode cX12_tells 9 = .ok (.invokevirtual 33, 3) := dk_182 0 33 (dk_at dksX12_tells_0 9 rfl rfl)
theorem dX12_tells_12 : decode cX12_tells 12 = .ok (.aload_n 0, 1) := dk_42 (dk_at dksX12_tells_0 12 rfl rfl)
theorem dX12_tells_13 : decode cX12_tells 13 = .ok (.iload_n 1, 1) := dk_27 (dk_at dksX12_tells_0 13 rfl rfl)
theorem dX12_tells_14 : decode cX12_tells 14 = .ok (.aload_n 0, 1) := dk_42 (dk_at dksX12_tells_0 14 rfl rfl)
theorem dX12_tells_15 : decode cX12_tells 15 = .ok (.getfield 39, 3) := dk_180 0 39 (dk_at dksX12_tells_0 15 rfl rfl)
theorem dX12_tells_18 : decode cX12_tells 18 = .ok (.isub, 1) := dk_100 (dk_at dksX12_tells_0 18 rfl rfl)
theorem dX12_tells_19 : decode cX12_tells 19 = .ok (.invokespecial 42, 3) := dk_183 0 42 (dk_at dksX12_tells_0 19 rfl rfl)
theorem dX12_tells_22 : decode cX12_tells 22 = .ok (.ireturn, 1) := dk_172 (dk_at dksX12_tells_0 22 rfl rfl)
theorem q111 : (Jvm.Cond.initialized "HatsDecide$Frayed") ∈ lw_all := lw_g (lw_at lw_m1 16 rfl) rfl
theorem q303 : (Jvm.Cond.fieldLinkNest "HatsDecide$Frayed" (29 : Nat) "HatsDecide" "trace" "LHatsDecide$Trace;" "HatsDecide") ∈ lw_tbl := lw_at lw_m1 208 rfl
theorem q440 : (Jvm.Cond.fieldLink "HatsDecide$Frayed" (39 : Nat) "HatsDecide$Frayed" "number" "I") ∈ lw_all := lw_g (lw_at lw_m2 105 rfl) rfl
theorem q441 : (Jvm.Cond.sameField "HatsDecide$Frayed" "HatsDecide$Hat" "number" "I") ∈ lw_all := lw_g (lw_at lw_m2 106 rfl) rfl
theorem q445 : (Jvm.Cond.fieldLink "HatsDecide$Frayed" (19 : Nat) "HatsDecide$Frayed" "v" "I") ∈ lw_all := lw_g (lw_at lw_m2 110 rfl) rfl
theorem q446 : (Jvm.Cond.sameField "HatsDecide$Frayed" "HatsDecide$Hat" "v" "I") ∈ lw_all := lw_g (lw_at lw_m2 111 rfl) rfl
theorem q519 : (Jvm.Cond.instantiable "HatsDecide$Frayed" (7 : Nat)) ∈ lw_all := lw_g (lw_at lw_m2 184 rfl) rfl
theorem q521 : (Jvm.Cond.instanceMethod ({ cls := "HatsDecide$Frayed", name := "<init>", desc := "(LHatsDecide;IIII)V" } : Jvm.MethodName)) ∈ lw_all := lw_g (lw_at lw_m2 186 rfl) rfl
theorem q522 : (Jvm.Cond.code ({ cls := "HatsDecide$Frayed", name := "<init>", desc := "(LHatsDecide;IIII)V" } : Jvm.MethodName) prog_5_method_1_code (6 : Nat) (Option.none : Option Jvm.ClassFile.FieldType)) ∈ lw_all := lw_g (lw_at lw_m2 187 rfl) rfl
theorem q523 : (Jvm.Cond.methodLink "HatsDecide$Frayed" (9 : Nat) ({ cls := "HatsDecide$Worn", name := "<init>", desc := "(LHatsDecide;IIII)V" } : Jvm.MethodName)) ∈ lw_all := lw_g (lw_at lw_m2 188 rfl) rfl
theorem q524 : (Jvm.Cond.fieldLink "HatsDecide$Frayed" (3 : Nat) "HatsDecide$Frayed" "this$0" "LHatsDecide;") ∈ lw_all := lw_g (lw_at lw_m2 189 rfl) rfl
theorem q525 : (Jvm.Cond.laysFinal "HatsDecide$Frayed" "HatsDecide$Frayed" "this$0" "LHatsDecide;") ∈ lw_all := lw_g (lw_at lw_m2 190 rfl) rfl
theorem q526 : (Jvm.Cond.soleField "HatsDecide$Frayed" "this$0") ∈ lw_all := lw_g (lw_at lw_m2 191 rfl) rfl
theorem q527 : (Jvm.Cond.laysFinal "HatsDecide$Frayed" "HatsDecide$Worn" "this$0" "LHatsDecide;") ∈ lw_all := lw_g (lw_at lw_m2 192 rfl) rfl
theorem q528 : (Jvm.Cond.laysFinal "HatsDecide$Frayed" "HatsDecide$Hat" "number" "I") ∈ lw_all := lw_g (lw_at lw_m2 193 rfl) rfl
theorem q529 : (Jvm.Cond.laysFinal "HatsDecide$Frayed" "HatsDecide$Hat" "v" "I") ∈ lw_all := lw_g (lw_at lw_m2 194 rfl) rfl
theorem q530 : (Jvm.Cond.laysFinal "HatsDecide$Frayed" "HatsDecide$Hat" "size" "I") ∈ lw_all := lw_g (lw_at lw_m2 195 rfl) rfl
theorem q531 : (Jvm.Cond.laysFinal "HatsDecide$Frayed" "HatsDecide$Hat" "trade" "I") ∈ lw_all := lw_g (lw_at lw_m2 196 rfl) rfl
theorem q532 : (Jvm.Cond.laysFinal "HatsDecide$Frayed" "HatsDecide$Hat" "this$0" "LHatsDecide;") ∈ lw_all := lw_g (lw_at lw_m2 197 rfl) rfl
theorem q533 : (Jvm.Cond.superclass "HatsDecide$Frayed" "HatsDecide$Worn") ∈ lw_all := lw_g (lw_at lw_m2 198 rfl) rfl
theorem q577 : (Jvm.Cond.selects "HatsDecide$Frayed" ({ cls := "HatsDecide$Hat", name := "kind", desc := "()I" } : Jvm.MethodName) ({ cls := "HatsDecide$Frayed", name := "kind", desc := "()I" } : Jvm.MethodName)) ∈ lw_all := lw_g (lw_at lw_m3 2 rfl) rfl
theorem q578 : (Jvm.Cond.instanceMethod ({ cls := "HatsDecide$Frayed", name := "kind", desc := "()I" } : Jvm.MethodName)) ∈ lw_all := lw_g (lw_at lw_m3 3 rfl) rfl
theorem q579 : (Jvm.Cond.code ({ cls := "HatsDecide$Frayed", name := "kind", desc := "()I" } : Jvm.MethodName) prog_5_method_2_code (1 : Nat) (Option.some Jvm.ClassFile.FieldType.int)) ∈ lw_all := lw_g (lw_at lw_m3 4 rfl) rfl
theorem q660 : (Jvm.Cond.selects "HatsDecide$Frayed" ({ cls := "HatsDecide$Hat", name := "deed", desc := "(IIII)I" } : Jvm.MethodName) ({ cls := "HatsDecide$Frayed", name := "deed", desc := "(IIII)I" } : Jvm.MethodName)) ∈ lw_all := lw_g (lw_at lw_m3 85 rfl) rfl
theorem q661 : (Jvm.Cond.instanceMethod ({ cls := "HatsDecide$Frayed", name := "deed", desc := "(IIII)I" } : Jvm.MethodName)) ∈ lw_all := lw_g (lw_at lw_m3 86 rfl) rfl
theorem q662 : (Jvm.Cond.code ({ cls := "HatsDecide$Frayed", name := "deed", desc := "(IIII)I" } : Jvm.MethodName) prog_5_method_3_code (5 : Nat) (Option.some Jvm.ClassFile.FieldType.int)) ∈ lw_all := lw_g (lw_at lw_m3 87 rfl) rfl
theorem q663 : (Jvm.Cond.methodLink "HatsDecide$Frayed" (15 : Nat) ({ cls := "HatsDecide$Worn", name := "deed", desc := "(IIII)I" } : Jvm.MethodName)) ∈ lw_all := lw_g (lw_at lw_m3 88 rfl) rfl
theorem q670 : (Jvm.Cond.methodLink "HatsDecide$Frayed" (23 : Nat) ({ cls := "java/lang/Math", name := "max", desc := "(II)I" } : Jvm.MethodName)) ∈ lw_all := lw_g (lw_at lw_m3 95 rfl) rfl
theorem q1004 : (Jvm.Cond.selects "HatsDecide$Frayed" ({ cls := "java/lang/Object", name := "getClass", desc := "()Ljava/lang/Class;" } : Jvm.MethodName) ({ cls := "java/lang/Object", name := "getClass", desc := "()Ljava/lang/Class;" } : Jvm.MethodName)) ∈ lw_all := lw_g (lw_at lw_m4 189 rfl) rfl
theorem q1316 : (Jvm.Cond.selects "HatsDecide$Frayed" ({ cls := "HatsDecide$Hat", name := "sits", desc := "(I)I" } : Jvm.MethodName) ({ cls := "HatsDecide$Worn", name := "sits", desc := "(I)I" } : Jvm.MethodName)) ∈ lw_all := lw_g (lw_at lw_m6 21 rfl) rfl
theorem q1346 : (Jvm.Cond.selects "HatsDecide$Frayed" ({ cls := "HatsDecide$Hat", name := "does", desc := "(I)I" } : Jvm.MethodName) ({ cls := "HatsDecide$Hat", name := "does", desc := "(I)I" } : Jvm.MethodName)) ∈ lw_all := lw_g (lw_at lw_m6 51 rfl) rfl
theorem q1377 : (Jvm.Cond.selects "HatsDecide$Frayed" ({ cls := "HatsDecide$Hat", name := "tells", desc := "(I)I" } : Jvm.MethodName) ({ cls := "HatsDecide$Frayed", name := "tells", desc := "(I)I" } : Jvm.MethodName)) ∈ lw_all := lw_g (lw_at lw_m6 82 rfl) rfl
theorem q1378 : (Jvm.Cond.instanceMethod ({ cls := "HatsDecide$Frayed", name := "tells", desc := "(I)I" } : Jvm.MethodName)) ∈ lw_all := lw_g (lw_at lw_m6 83 rfl) rfl
theorem q1379 : (Jvm.Cond.code ({ cls := "HatsDecide$Frayed", name := "tells", desc := "(I)I" } : Jvm.MethodName) prog_5_method_4_code (2 : Nat) (Option.some Jvm.ClassFile.FieldType.int)) ∈ lw_all := lw_g (lw_at lw_m6 84 rfl) rfl
theorem q1380 : (Jvm.Cond.methodLink "HatsDecide$Frayed" (33 : Nat) ({ cls := "HatsDecide$Trace", name := "ran", desc := "(I)V" } : Jvm.MethodName)) ∈ lw_all := lw_g (lw_at lw_m6 85 rfl) rfl
theorem q1381 : (Jvm.Cond.methodLink "HatsDecide$Frayed" (42 : Nat) ({ cls := "HatsDecide$Worn", name := "tells", desc := "(I)I" } : Jvm.MethodName)) ∈ lw_all := lw_g (lw_at lw_m6 86 rfl) rfl
theorem q2166 : (Jvm.Cond.castable "HatsDecide$Frayed" "HatsDecide$Hat") ∈ lw_tbl := lw_at lw_m9 151 rfl
theorem q2172 : (Jvm.Cond.castable "HatsDecide$Frayed" "HatsDecide$Worn") ∈ lw_tbl := lw_at lw_m9 157 rfl
theorem q2187 : (Jvm.Cond.castable "HatsDecide$Frayed" "java/lang/Object") ∈ lw_tbl := lw_at lw_m9 172 rfl
theorem in_X12 : ∀ w ∈ wsX120, w ∈ lw_all := lw_in wsX120 [528, 529, 530, 531, 532, 527, 525] (by decide +kernel) (by decide +kernel)

/-! HatsDecide$Told -/
set_option maxRecDepth 100000
def RX13 : String := "HatsDecide$Told"
def TX13 : u_T := fun k => match k with
  | 0 => ("HatsDecide$Hat", "number", "I", true)
  | 1 => ("HatsDecide$Hat", "v", "I", true)
  | 2 => ("HatsDecide$Hat", "size", "I", true)
  | 3 => ("HatsDecide$Hat", "trade", "I", true)
  | 4 => ("HatsDecide$Hat", "this$0", "LHatsDecide;", true)
  | 5 => ("HatsDecide$Crown", "this$0", "LHatsDecide;", true)
  | 6 => ("HatsDecide$Told", "row", "[B", true)
  | _ => ("HatsDecide$Told", "this$0", "LHatsDecide;", true)
def tyX13 : Nat → FieldType := fun k => match k with
  | 0 => .int
  | 1 => .int
  | 2 => .int
  | 3 => .int
  | 4 => .object "HatsDecide"
  | 5 => .object "HatsDecide"
  | 6 => .array .byte
  | _ => .object "HatsDecide"
abbrev wsX130 : List Cond := u_ws RX13 TX13 8
-- two fields of one name: no nmX13
theorem tyX13_ok : ∀ k, k < 8 → parseFieldDescriptor (TX13 k).2.2.1 = some (tyX13 k) := by decide +kernel
abbrev cX13_init : ByteArray := prog_18_method_1_code
def yX13_init : MethodName := ⟨RX13, "<init>", "(LHatsDecide;IIII)V"⟩
def dkwX13_init_0 : List UInt8 := [42, 43, 181, 0, 3, 42, 43, 28, 29, 21, 4, 21, 5, 183, 0, 9, 42, 7, 188, 8, 181, 0, 15, 177]
abbrev dktX13_init_0 : List UInt8 := dkwX13_init_0 ++ []
theorem dksX13_init_0 : cX13_init.data.toList.drop 0 = dktX13_init_0 := by decide +kernel
theorem dX13_init_0 : decode cX13_init 0 = .ok (.aload_n 0, 1) := dk_42 (dk_at dksX13_init_0 0 rfl rfl)
theorem dX13_init_1 : decode cX13_init 1 = .ok (.aload_n 1, 1) := dk_43 (dk_at dksX13_init_0 1 rfl rfl)
theorem dX13_init_2 : decode cX13_init 2 = .ok (.putfield 3, 3) := dk_181 0 3 (dk_at dksX13_init_0 2 rfl rfl)
theorem dX13_init_5 : decode cX13_init 5 = .ok (.aload_n 0, 1) := dk_42 (dk_at dksX13_init_0 5 rfl rfl)
theorem dX13_init_6 : decode cX13_init 6 = .ok (.aload_n 1, 1) := dk_43 (dk_at dksX13_init_0 6 rfl rfl)
theorem dX13_init_7 : decode cX13_init 7 = .ok (.iload_n 2, 1) := dk_28 (dk_at dksX13_init_0 7 rfl rfl)
theorem dX13_init_8 : decode cX13_init 8 = .ok (.iload_n 3, 1) := dk_29 (dk_at dksX13_init_0 8 rfl rfl)
theorem dX13_init_9 : decode cX13_init 9 = .ok (.iload 4, 2) := dk_21 4 (dk_at dksX13_init_0 9 rfl rfl)
theorem dX13_init_11 : decode cX13_init 11 = .ok (.iload 5, 2) := dk_21 5 (dk_at dksX13_init_0 11 rfl rfl)
theorem dX13_init_13 : decode cX13_init 13 = .ok (.invokespecial 9, 3) := dk_183 0 9 (dk_at dksX13_init_0 13 rfl rfl)
theorem dX13_init_16 : decode cX13_init 16 = .ok (.aload_n 0, 1) := dk_42 (dk_at dksX13_init_0 16 rfl rfl)
theorem dX13_init_17 : decode cX13_init 17 = .ok (.iconst 4, 1) := dk_7 (dk_at dksX13_init_0 17 rfl rfl)
theorem dX13_init_18 : decode cX13_init 18 = .ok (.newarray .byte, 2) := dk_188_8 (dk_at dksX13_init_0 18 rfl rfl)
theorem dX13_init_20 : decode cX13_init 20 = .ok (.putfield 15, 3) := dk_181 0 15 (dk_at dksX13_init_0 20 rfl rfl)
theorem dX13_init_23 : decode cX13_init 23 = .ok (.return_, 1) := dk_177 (dk_at dksX13_init_0 23 rfl rfl)
abbrev cX13_kind : ByteArray := prog_18_method_2_code
def yX13_kind : MethodName := ⟨RX13, "kind", "()I"⟩
theorem dX13_kind_0 : decode cX13_kind 0 = .ok (.bipush 6, 2) := by decide +kernel
theorem dX13_kind_2 : decode cX13_kind 2 = .ok (.ireturn, 1) := by decide +kernel
abbrev cX13_deed : ByteArray := prog_18_method_3_code
def yX13_deed : MethodName := ⟨RX13, "deed", "(IIII)I"⟩
def dkwX13_deed_0 : List UInt8 := [42, 27, 28, 29, 21, 4, 183, 0, 19, 42, 180, 0, 15, 21, 4, 7, 112, 51, 96, 172]
abbrev dktX13_deed_0 : List UInt8 := dkwX13_deed_0 ++ []
theorem dksX13_deed_0 : cX13_deed.data.toList.drop 0 = dktX13_deed_0 := by decide +kernel
theorem dX13_deed_0 : decode cX13_deed 0 = .ok (.aload_n 0, 1) := dk_42 (dk_at dksX13_deed_0 0 rfl rfl)
theorem dX13_deed_1 : decode cX13_deed 1 = .ok (.iload_n 1, 1) := dk_27 (dk_at dksX13_deed_0 1 rfl rfl)
theorem dX13_deed_2 : decode cX13_deed 2 = .ok (.iload_n 2, 1) := dk_28 (dk_at dksX13_deed_0 2 rfl rfl)
theorem dX13_deed_3 : decode cX13_deed 3 = .ok (.iload_n 3, 1) := dk_29 (dk_at dksX13_deed_0 3 rfl rfl)
theorem dX13_deed_4 : decode cX13_deed 4 = .ok (.iload 4, 2) := dk_21 4 (dk_at dksX13_deed_0 4 rfl rfl)
theorem dX13_deed_6 : decode cX13_deed 6 = .ok (.invokespecial 19, 3) := dk_183 0 19 (dk_at dksX13_deed_0 6 rfl rfl)
theorem dX13_deed_9 : decode cX13_deed 9 = .ok (.aload_n 0, 1) := dk_42 (dk_at dksX13_deed_0 9 rfl rfl)
theorem dX13_deed_10 : decode cX13_deed 10 = .ok (.getfield 15, 3) := dk_180 0 15 (dk_at dksX13_deed_0 10 rfl rfl)
theorem dX13_deed_13 : decode cX13_deed 13 = .ok (.iload 4, 2) := dk_21 4 (dk_at dksX13_deed_0 13 rfl rfl)
theorem dX13_deed_15 : decode cX13_deed 15 = .ok (.iconst 4, 1) := dk_7 (dk_at dksX13_deed_0 15 rfl rfl)
theorem dX13_deed_16 : decode cX13_deed 16 = .ok (.irem, 1) := dk_112 (dk_at dksX13_deed_0 16 rfl rfl)
theorem dX13_deed_17 : decode cX13_deed 17 = .ok (.baload, 1) := dk_51 (dk_at dksX13_deed_0 17 rfl rfl)
theorem dX13_deed_18 : decode cX13_deed 18 = .ok (.iadd, 1) := dk_96 (dk_at dksX13_deed_0 18 rfl rfl)
theorem dX13_deed_19 : decode cX13_deed 19 = .ok (.ireturn, 1) := dk_172 (dk_at dksX13_deed_0 19 rfl rfl)
abbrev cX13_sits : ByteArray := prog_18_method_5_code
def yX13_sits : MethodName := ⟨RX13, "sits", "(I)I"⟩
def dkwX13_sits_0 : List UInt8 := [42, 180, 0, 3, 180, 0, 23, 16, 71, 182, 0, 27, 42, 27, 183, 0, 37, 42, 180, 0, 40, 130, 172]
abbrev dktX13_sits_0 : List UInt8 := dkwX13_sits_0 ++ []
theorem dksX13_sits_0 : cX13_sits.data.toList.drop 0 = dktX13_sits_0 := by decide +kernel
theorem dX13_sits_0 : decode cX13_sits 0 = .ok (.aload_n 0, 1) := dk_42 (dk_at dksX13_sits_0 0 rfl rfl)
theorem dX13_sits_1 : decode cX13_sits 1 = .ok (.getfield 3, 3) := dk_180 0 3 (dk_at dksX13_sits_0 1 rfl rfl)
theorem dX13_sits_4 : decode cX13_sits 4 = .ok (.getfield 23, 3) := dk_180 0 23 (dk_at dksX13_sits_0 4 rfl rfl)
theorem dX13_sits_7 : decode cX13_sits 7 = .ok (.bipush 71, 2) := dk_16 71 (dk_at dksX13_sits_0 7 rfl rfl)
theorem dX13_sits_9 : decode cX13_sits 9 = .ok (.invokevirtual 27, 3) := dk_182 0 27 (dk_at dksX13_sits_0 9 rfl rfl)
theorem dX13_sits_12 : decode cX13_sits 12 = .ok (.aload_n 0, 1) := dk_42 (dk_at dksX13_sits_0 12 rfl rfl)
theorem dX13_sits_13 : decode cX13_sits 13 = .ok (.iload_n 1, 1) := dk_27 (dk_at dksX13_sits_0 13 rfl rfl)
theorem dX13_sits_14 : decode cX13_sits 14 = .ok (.invokespecial 37, 3) := dk_183 0 37 (dk_at dksX13_sits_0 14 rfl rfl)
theorem dX13_sits_17 : decode cX13_sits 17 = .ok (.aload_n 0, 1) := dk_42 (dk_at dksX13_sits_0 17 rfl rfl)
theorem dX13_sits_18 : decode cX13_sits 18 = .ok (.getfield 40, 3) := dk_180 0 40 (dk_at dksX13_sits_0 18 rfl rfl)
theorem dX13_sits_21 : decode cX13_sits 21 = .ok (.ixor, 1) := dk_130 (dk_at dksX13_sits_0 21 rfl rfl)
theorem dX13_sits_22 : decode cX13_sits 22 = .ok (.ireturn, 1) := dk_172 (dk_at dksX13_sits_0 22 rfl rfl)
abbrev cX13_does : ByteArray := prog_18_method_4_code
def yX13_does : MethodName := ⟨RX13, "does", "(I)I"⟩
def dkwX13_does_1 : List UInt8 := [96, 172]
abbrev dktX13_does_1 : List UInt8 := dkwX13_does_1 ++ []
def dkwX13_does_0 : List UInt8 := [42, 180, 0, 3, 180, 0, 23, 16, 70, 182, 0, 27, 42, 27, 183, 0, 33, 61, 28, 42, 5, 183, 0, 37]
abbrev dktX13_does_0 : List UInt8 := dkwX13_does_0 ++ dktX13_does_1
theorem dksX13_does_0 : cX13_does.data.toList.drop 0 = dktX13_does_0 := by decide +kernel
theorem dksX13_does_1 : cX13_does.data.toList.drop 24 = dktX13_does_1 := dk_seg dksX13_does_0 24 rfl rfl
theorem dX13_does_0 : decode cX13_does 0 = .ok (.aload_n 0, 1) := dk_42 (dk_at dksX13_does_0 0 rfl rfl)
theorem dX13_does_1 : decode cX13_does 1 = .ok (.getfield 3, 3) := dk_180 0 3 (dk_at dksX13_does_0 1 rfl rfl)
theorem dX13_does_4 : decode cX13_does 4 = .ok (.getfield 23, 3) := dk_180 0 23 (dk_at dksX13_does_0 4 rfl rfl)
theorem dX13_does_7 : decode cX13_does 7 = .ok (.bipush 70, 2) := dk_16 70 (dk_at dksX13_does_0 7 rfl rfl)
theorem dX13_does_9 : decode cX13_does 9 = .ok (.invokevirtual 27, 3) := dk_182 0 27 (dk_at dksX13_does_0 9 rfl rfl)
theorem dX13_does_12 : decode cX13_does 12 = .ok (.aload_n 0, 1) := dk_42 (dk_at dksX13_does_0 12 rfl rfl)
theorem dX13_does_13 : decode cX13_does 13 = .ok (.iload_n 1, 1) := dk_27 (dk_at dksX13_does_0 13 rfl rfl)
theorem dX13_does_14 : decode cX13_does 14 = .ok (.invokespecial 33, 3) := dk_183 0 33 (dk_at dksX13_does_0 14 rfl rfl)
theorem dX13_does_17 : decode cX13_does 17 = .ok (.istore_n 2, 1) := dk_61 (dk_at dksX13_does_0 17 rfl rfl)
theorem dX13_does_18 : decode cX13_does 18 = .ok (.iload_n 2, 1) := dk_28 (dk_at dksX13_does_0 18 rfl rfl)
theorem dX13_does_19 : decode cX13_does 19 = .ok (.aload_n 0, 1) := dk_42 (dk_at dksX13_does_0 19 rfl rfl)
theorem dX13_does_20 : decode cX13_does 20 = .ok (.iconst 2, 1) := dk_5 (dk_at dksX13_does_0 20 rfl rfl)
theorem dX13_does_21 : decode cX13_does 21 = .ok (.invokespecial 37, 3) := dk_183 0 37 (dk_at dksX13_does_0 21 rfl rfl)
theorem dX13_does_24 : decode cX13_does 24 = .ok (.iadd, 1) := dk_96 (dk_at dksX13_does_1 0 rfl rfl)
theorem dX13_does_25 : decode cX13_does 25 = .ok (.ireturn, 1) := dk_172 (dk_at dksX13_does_1 1 rfl rfl)
theorem q112 : (Jvm.Cond.initialized "HatsDecide$Told") ∈ lw_all := lw_g (lw_at lw_m1 17 rfl) rfl
theorem q301 : (Jvm.Cond.fieldLinkNest "HatsDecide$Told" (23 : Nat) "HatsDecide" "trace" "LHatsDecide$Trace;" "HatsDecide") ∈ lw_tbl := lw_at lw_m1 206 rfl
theorem q447 : (Jvm.Cond.fieldLink "HatsDecide$Told" (40 : Nat) "HatsDecide$Told" "v" "I") ∈ lw_all := lw_g (lw_at lw_m2 112 rfl) rfl
theorem q448 : (Jvm.Cond.sameField "HatsDecide$Told" "HatsDecide$Hat" "v" "I") ∈ lw_all := lw_g (lw_at lw_m2 113 rfl) rfl
theorem q535 : (Jvm.Cond.instantiable "HatsDecide$Told" (8 : Nat)) ∈ lw_all := lw_g (lw_at lw_m2 200 rfl) rfl
theorem q537 : (Jvm.Cond.instanceMethod ({ cls := "HatsDecide$Told", name := "<init>", desc := "(LHatsDecide;IIII)V" } : Jvm.MethodName)) ∈ lw_all := lw_g (lw_at lw_m2 202 rfl) rfl
theorem q538 : (Jvm.Cond.code ({ cls := "HatsDecide$Told", name := "<init>", desc := "(LHatsDecide;IIII)V" } : Jvm.MethodName) prog_18_method_1_code (6 : Nat) (Option.none : Option Jvm.ClassFile.FieldType)) ∈ lw_all := lw_g (lw_at lw_m2 203 rfl) rfl
theorem q539 : (Jvm.Cond.methodLink "HatsDecide$Told" (9 : Nat) ({ cls := "HatsDecide$Crown", name := "<init>", desc := "(LHatsDecide;IIII)V" } : Jvm.MethodName)) ∈ lw_all := lw_g (lw_at lw_m2 204 rfl) rfl
theorem q540 : (Jvm.Cond.fieldLink "HatsDecide$Told" (15 : Nat) "HatsDecide$Told" "row" "[B") ∈ lw_all := lw_g (lw_at lw_m2 205 rfl) rfl
theorem q542 : (Jvm.Cond.fieldLink "HatsDecide$Told" (3 : Nat) "HatsDecide$Told" "this$0" "LHatsDecide;") ∈ lw_all := lw_g (lw_at lw_m2 207 rfl) rfl
theorem q543 : (Jvm.Cond.laysFinal "HatsDecide$Told" "HatsDecide$Told" "row" "[B") ∈ lw_all := lw_g (lw_at lw_m2 208 rfl) rfl
theorem q544 : (Jvm.Cond.soleField "HatsDecide$Told" "row") ∈ lw_all := lw_g (lw_at lw_m2 209 rfl) rfl
theorem q545 : (Jvm.Cond.laysFinal "HatsDecide$Told" "HatsDecide$Told" "this$0" "LHatsDecide;") ∈ lw_all := lw_g (lw_at lw_m2 210 rfl) rfl
theorem q546 : (Jvm.Cond.soleField "HatsDecide$Told" "this$0") ∈ lw_all := lw_g (lw_at lw_m2 211 rfl) rfl
theorem q547 : (Jvm.Cond.laysFinal "HatsDecide$Told" "HatsDecide$Crown" "this$0" "LHatsDecide;") ∈ lw_all := lw_g (lw_at lw_m2 212 rfl) rfl
theorem q548 : (Jvm.Cond.laysFinal "HatsDecide$Told" "HatsDecide$Hat" "number" "I") ∈ lw_all := lw_g (lw_at lw_m2 213 rfl) rfl
theorem q549 : (Jvm.Cond.laysFinal "HatsDecide$Told" "HatsDecide$Hat" "v" "I") ∈ lw_all := lw_g (lw_at lw_m2 214 rfl) rfl
theorem q550 : (Jvm.Cond.laysFinal "HatsDecide$Told" "HatsDecide$Hat" "size" "I") ∈ lw_all := lw_g (lw_at lw_m2 215 rfl) rfl
theorem q551 : (Jvm.Cond.laysFinal "HatsDecide$Told" "HatsDecide$Hat" "trade" "I") ∈ lw_all := lw_g (lw_at lw_m2 216 rfl) rfl
theorem q552 : (Jvm.Cond.laysFinal "HatsDecide$Told" "HatsDecide$Hat" "this$0" "LHatsDecide;") ∈ lw_all := lw_g (lw_at lw_m2 217 rfl) rfl
theorem q553 : (Jvm.Cond.superclass "HatsDecide$Told" "HatsDecide$Crown") ∈ lw_all := lw_g (lw_at lw_m2 218 rfl) rfl
theorem q586 : (Jvm.Cond.selects "HatsDecide$Told" ({ cls := "HatsDecide$Hat", name := "kind", desc := "()I" } : Jvm.MethodName) ({ cls := "HatsDecide$Told", name := "kind", desc := "()I" } : Jvm.MethodName)) ∈ lw_all := lw_g (lw_at lw_m3 11 rfl) rfl
theorem q587 : (Jvm.Cond.instanceMethod ({ cls := "HatsDecide$Told", name := "kind", desc := "()I" } : Jvm.MethodName)) ∈ lw_all := lw_g (lw_at lw_m3 12 rfl) rfl
theorem q588 : (Jvm.Cond.code ({ cls := "HatsDecide$Told", name := "kind", desc := "()I" } : Jvm.MethodName) prog_18_method_2_code (1 : Nat) (Option.some Jvm.ClassFile.FieldType.int)) ∈ lw_all := lw_g (lw_at lw_m3 13 rfl) rfl
theorem q683 : (Jvm.Cond.selects "HatsDecide$Told" ({ cls := "HatsDecide$Hat", name := "deed", desc := "(IIII)I" } : Jvm.MethodName) ({ cls := "HatsDecide$Told", name := "deed", desc := "(IIII)I" } : Jvm.MethodName)) ∈ lw_all := lw_g (lw_at lw_m3 108 rfl) rfl
theorem q684 : (Jvm.Cond.instanceMethod ({ cls := "HatsDecide$Told", name := "deed", desc := "(IIII)I" } : Jvm.MethodName)) ∈ lw_all := lw_g (lw_at lw_m3 109 rfl) rfl
theorem q685 : (Jvm.Cond.code ({ cls := "HatsDecide$Told", name := "deed", desc := "(IIII)I" } : Jvm.MethodName) prog_18_method_3_code (5 : Nat) (Option.some Jvm.ClassFile.FieldType.int)) ∈ lw_all := lw_g (lw_at lw_m3 110 rfl) rfl
theorem q686 : (Jvm.Cond.methodLink "HatsDecide$Told" (19 : Nat) ({ cls := "HatsDecide$Crown", name := "deed", desc := "(IIII)I" } : Jvm.MethodName)) ∈ lw_all := lw_g (lw_at lw_m3 111 rfl) rfl
theorem q1015 : (Jvm.Cond.selects "HatsDecide$Told" ({ cls := "java/lang/Object", name := "getClass", desc := "()Ljava/lang/Class;" } : Jvm.MethodName) ({ cls := "java/lang/Object", name := "getClass", desc := "()Ljava/lang/Class;" } : Jvm.MethodName)) ∈ lw_all := lw_g (lw_at lw_m4 200 rfl) rfl
theorem q1332 : (Jvm.Cond.selects "HatsDecide$Told" ({ cls := "HatsDecide$Hat", name := "sits", desc := "(I)I" } : Jvm.MethodName) ({ cls := "HatsDecide$Told", name := "sits", desc := "(I)I" } : Jvm.MethodName)) ∈ lw_all := lw_g (lw_at lw_m6 37 rfl) rfl
theorem q1333 : (Jvm.Cond.instanceMethod ({ cls := "HatsDecide$Told", name := "sits", desc := "(I)I" } : Jvm.MethodName)) ∈ lw_all := lw_g (lw_at lw_m6 38 rfl) rfl
theorem q1334 : (Jvm.Cond.code ({ cls := "HatsDecide$Told", name := "sits", desc := "(I)I" } : Jvm.MethodName) prog_18_method_5_code (2 : Nat) (Option.some Jvm.ClassFile.FieldType.int)) ∈ lw_all := lw_g (lw_at lw_m6 39 rfl) rfl
theorem q1335 : (Jvm.Cond.methodLink "HatsDecide$Told" (27 : Nat) ({ cls := "HatsDecide$Trace", name := "ran", desc := "(I)V" } : Jvm.MethodName)) ∈ lw_all := lw_g (lw_at lw_m6 40 rfl) rfl
theorem q1336 : (Jvm.Cond.methodLink "HatsDecide$Told" (37 : Nat) ({ cls := "HatsDecide$Crown", name := "sits", desc := "(I)I" } : Jvm.MethodName)) ∈ lw_all := lw_g (lw_at lw_m6 41 rfl) rfl
theorem q1356 : (Jvm.Cond.selects "HatsDecide$Told" ({ cls := "HatsDecide$Hat", name := "does", desc := "(I)I" } : Jvm.MethodName) ({ cls := "HatsDecide$Told", name := "does", desc := "(I)I" } : Jvm.MethodName)) ∈ lw_all := lw_g (lw_at lw_m6 61 rfl) rfl
theorem q1357 : (Jvm.Cond.instanceMethod ({ cls := "HatsDecide$Told", name := "does", desc := "(I)I" } : Jvm.MethodName)) ∈ lw_all := lw_g (lw_at lw_m6 62 rfl) rfl
theorem q1358 : (Jvm.Cond.code ({ cls := "HatsDecide$Told", name := "does", desc := "(I)I" } : Jvm.MethodName) prog_18_method_4_code (3 : Nat) (Option.some Jvm.ClassFile.FieldType.int)) ∈ lw_all := lw_g (lw_at lw_m6 63 rfl) rfl
theorem q1359 : (Jvm.Cond.methodLink "HatsDecide$Told" (33 : Nat) ({ cls := "HatsDecide$Crown", name := "does", desc := "(I)I" } : Jvm.MethodName)) ∈ lw_all := lw_g (lw_at lw_m6 64 rfl) rfl
theorem q1376 : (Jvm.Cond.selects "HatsDecide$Told" ({ cls := "HatsDecide$Crown", name := "does", desc := "(I)I" } : Jvm.MethodName) ({ cls := "HatsDecide$Told", name := "does", desc := "(I)I" } : Jvm.MethodName)) ∈ lw_all := lw_g (lw_at lw_m6 81 rfl) rfl
theorem q1386 : (Jvm.Cond.selects "HatsDecide$Told" ({ cls := "HatsDecide$Hat", name := "tells", desc := "(I)I" } : Jvm.MethodName) ({ cls := "HatsDecide$Crown", name := "tells", desc := "(I)I" } : Jvm.MethodName)) ∈ lw_all := lw_g (lw_at lw_m6 91 rfl) rfl
theorem q2169 : (Jvm.Cond.castable "HatsDecide$Told" "HatsDecide$Hat") ∈ lw_tbl := lw_at lw_m9 154 rfl
theorem q2173 : (Jvm.Cond.castable "HatsDecide$Told" "HatsDecide$Crown") ∈ lw_tbl := lw_at lw_m9 158 rfl
theorem q2188 : (Jvm.Cond.castable "HatsDecide$Told" "java/lang/Object") ∈ lw_tbl := lw_at lw_m9 173 rfl
theorem in_X13 : ∀ w ∈ wsX130, w ∈ lw_all := lw_in wsX130 [548, 549, 550, 551, 552, 547, 543, 545] (by decide +kernel) (by decide +kernel)

/-! HatsDecide$Reader -/
set_option maxRecDepth 100000
def RX14 : String := "HatsDecide$Reader"
def TX14 : u_T := fun k => match k with
  | 0 => ("HatsDecide$Reader", "text", "[B", true)
  | 1 => ("HatsDecide$Reader", "size", "I", true)
  | 2 => ("HatsDecide$Reader", "at", "I", false)
  | 3 => ("HatsDecide$Reader", "deep", "I", false)
  | _ => ("HatsDecide$Reader", "town", "LHatsDecide$Town;", true)
def tyX14 : Nat → FieldType := fun k => match k with
  | 0 => .array .byte
  | 1 => .int
  | 2 => .int
  | 3 => .int
  | _ => .object "HatsDecide$Town"
abbrev wsX140 : List Cond := u_ws RX14 TX14 5
theorem nmX14 : ∀ a, a < 5 → ∀ b, b < 5 → a ≠ b → (TX14 a).2.1 ≠ (TX14 b).2.1 := by decide +kernel
theorem tyX14_ok : ∀ k, k < 5 → parseFieldDescriptor (TX14 k).2.2.1 = some (tyX14 k) := by decide +kernel
abbrev cX14_init : ByteArray := prog_10_method_1_code
def yX14_init : MethodName := ⟨RX14, "<init>", "([BI)V"⟩
def dkwX14_init_1 : List UInt8 := [181, 0, 22, 177]
abbrev dktX14_init_1 : List UInt8 := dkwX14_init_1 ++ []
def dkwX14_init_0 : List UInt8 := [42, 183, 0, 3, 42, 187, 0, 9, 89, 183, 0, 11, 181, 0, 12, 42, 43, 181, 0, 18, 42, 28]
abbrev dktX14_init_0 : List UInt8 := dkwX14_init_0 ++ dktX14_init_1
theorem dksX14_init_0 : cX14_init.data.toList.drop 0 = dktX14_init_0 := by decide +kernel
theorem dksX14_init_1 : cX14_init.data.toList.drop 22 = dktX14_init_1 := dk_seg dksX14_init_0 22 rfl rfl
theorem dX14_init_0 : decode cX14_init 0 = .ok (.aload_n 0, 1) := dk_42 (dk_at dksX14_init_0 0 rfl rfl)
theorem dX14_init_1 : decode cX14_init 1 = .ok (.invokespecial 3, 3) := dk_183 0 3 (dk_at dksX14_init_0 1 rfl rfl)
theorem dX14_init_4 : decode cX14_init 4 = .ok (.aload_n 0, 1) := dk_42 (dk_at dksX14_init_0 4 rfl rfl)
theorem dX14_init_5 : decode cX14_init 5 = .ok (.new 9, 3) := dk_187 0 9 (dk_at dksX14_init_0 5 rfl rfl)
theorem dX14_init_8 : decode cX14_init 8 = .ok (.dup, 1) := dk_89 (dk_at dksX14_init_0 8 rfl rfl)
theorem dX14_init_9 : decode cX14_init 9 = .ok (.invokespecial 11, 3) := dk_183 0 11 (dk_at dksX14_init_0 9 rfl rfl)
theorem dX14_init_12 : decode cX14_init 12 = .ok (.putfield 12, 3) := dk_181 0 12 (dk_at dksX14_init_0 12 rfl rfl)
theorem dX14_init_15 : decode cX14_init 15 = .ok (.aload_n 0, 1) := dk_42 (dk_at dksX14_init_0 15 rfl rfl)
theorem dX14_init_16 : decode cX14_init 16 = .ok (.aload_n 1, 1) := dk_43 (dk_at dksX14_init_0 16 rfl rfl)
theorem dX14_init_17 : decode cX14_init 17 = .ok (.putfield 18, 3) := dk_181 0 18 (dk_at dksX14_init_0 17 rfl rfl)
theorem dX14_init_20 : decode cX14_init 20 = .ok (.aload_n 0, 1) := dk_42 (dk_at dksX14_init_0 20 rfl rfl)
theorem dX14_init_21 : decode cX14_init 21 = .ok (.iload_n 2, 1) := dk_28 (dk_at dksX14_init_0 21 rfl rfl)
theorem dX14_init_22 : decode cX14_init 22 = .ok (.putfield 22, 3) := dk_181 0 22 (dk_at dksX14_init_1 0 rfl rfl)
theorem dX14_init_25 : decode cX14_init 25 = .ok (.return_, 1) := dk_177 (dk_at dksX14_init_1 3 rfl rfl)
abbrev cX14_town : ByteArray := prog_10_method_14_code
def yX14_town : MethodName := ⟨RX14, "town", "()LHatsDecide$Town;"⟩
def dkwX14_town_2 : List UInt8 := [42, 180, 0, 22, 162, 0, 8, 42, 182, 0, 38, 191, 42, 180, 0, 12, 176]
abbrev dktX14_town_2 : List UInt8 := dkwX14_town_2 ++ []
def dkwX14_town_1 : List UInt8 := [160, 0, 20, 42, 89, 180, 0, 26, 4, 96, 181, 0, 26, 42, 182, 0, 139, 167, 255, 221, 42, 180, 0, 26]
abbrev dktX14_town_1 : List UInt8 := dkwX14_town_1 ++ dktX14_town_2
def dkwX14_town_0 : List UInt8 := [42, 182, 0, 139, 42, 180, 0, 12, 180, 0, 136, 16, 10, 162, 0, 29, 42, 182, 0, 34, 16, 59]
abbrev dktX14_town_0 : List UInt8 := dkwX14_town_0 ++ dktX14_town_1
theorem dksX14_town_0 : cX14_town.data.toList.drop 0 = dktX14_town_0 := by decide +kernel
theorem dksX14_town_1 : cX14_town.data.toList.drop 22 = dktX14_town_1 := dk_seg dksX14_town_0 22 rfl rfl
theorem dksX14_town_2 : cX14_town.data.toList.drop 46 = dktX14_town_2 := dk_seg dksX14_town_1 24 rfl rfl
theorem dX14_town_0 : decode cX14_town 0 = .ok (.aload_n 0, 1) := dk_42 (dk_at dksX14_town_0 0 rfl rfl)
theorem dX14_town_1 : decode cX14_town 1 = .ok (.invokevirtual 139, 3) := dk_182 0 139 (dk_at dksX14_town_0 1 rfl rfl)
theorem dX14_town_4 : decode cX14_town 4 = .ok (.aload_n 0, 1) := dk_42 (dk_at dksX14_town_0 4 rfl rfl)
theorem dX14_town_5 : decode cX14_town 5 = .ok (.getfield 12, 3) := dk_180 0 12 (dk_at dksX14_town_0 5 rfl rfl)
theorem dX14_town_8 : decode cX14_town 8 = .ok (.getfield 136, 3) := dk_180 0 136 (dk_at dksX14_town_0 8 rfl rfl)
theorem dX14_town_11 : decode cX14_town 11 = .ok (.bipush 10, 2) := dk_16 10 (dk_at dksX14_town_0 11 rfl rfl)
theorem dX14_town_13 : decode cX14_town 13 = .ok (.if_icmp .ge 29, 3) := dk_162 0 29 (dk_at dksX14_town_0 13 rfl rfl)
theorem dX14_town_16 : decode cX14_town 16 = .ok (.aload_n 0, 1) := dk_42 (dk_at dksX14_town_0 16 rfl rfl)
theorem dX14_town_17 : decode cX14_town 17 = .ok (.invokevirtual 34, 3) := dk_182 0 34 (dk_at dksX14_town_0 17 rfl rfl)
theorem dX14_town_20 : decode cX14_town 20 = .ok (.bipush 59, 2) := dk_16 59 (dk_at dksX14_town_0 20 rfl rfl)
theorem dX14_town_22 : decode cX14_town 22 = .ok (.if_icmp .ne 20, 3) := dk_160 0 20 (dk_at dksX14_town_1 0 rfl rfl)
theorem dX14_town_25 : decode cX14_town 25 = .ok (.aload_n 0, 1) := dk_42 (dk_at dksX14_town_1 3 rfl rfl)
theorem dX14_town_26 : decode cX14_town 26 = .ok (.dup, 1) := dk_89 (dk_at dksX14_town_1 4 rfl rfl)
theorem dX14_town_27 : decode cX14_town 27 = .ok (.getfield 26, 3) := dk_180 0 26 (dk_at dksX14_town_1 5 rfl rfl)
theorem dX14_town_30 : decode cX14_town 30 = .ok (.iconst 1, 1) := dk_4 (dk_at dksX14_town_1 8 rfl rfl)
theorem dX14_town_31 : decode cX14_town 31 = .ok (.iadd, 1) := dk_96 (dk_at dksX14_town_1 9 rfl rfl)
theorem dX14_town_32 : decode cX14_town 32 = .ok (.putfield 26, 3) := dk_181 0 26 (dk_at dksX14_town_1 10 rfl rfl)
theorem dX14_town_35 : decode cX14_town 35 = .ok (.aload_n 0, 1) := dk_42 (dk_at dksX14_town_1 13 rfl rfl)
theorem dX14_town_36 : decode cX14_town 36 = .ok (.invokevirtual 139, 3) := dk_182 0 139 (dk_at dksX14_town_1 14 rfl rfl)
theorem dX14_town_39 : decode cX14_town 39 = .ok (.goto (-35), 3) := dk_167 255 221 (dk_at dksX14_town_1 17 rfl rfl)
theorem dX14_town_42 : decode cX14_town 42 = .ok (.aload_n 0, 1) := dk_42 (dk_at dksX14_town_1 20 rfl rfl)
theorem dX14_town_43 : decode cX14_town 43 = .ok (.getfield 26, 3) := dk_180 0 26 (dk_at dksX14_town_1 21 rfl rfl)
theorem dX14_town_46 : decode cX14_town 46 = .ok (.aload_n 0, 1) := dk_42 (dk_at dksX14_town_2 0 rfl rfl)
theorem dX14_town_47 : decode cX14_town 47 = .ok (.getfield 22, 3) := dk_180 0 22 (dk_at dksX14_town_2 1 rfl rfl)
theorem dX14_town_50 : decode cX14_town 50 = .ok (.if_icmp .ge 8, 3) := dk_162 0 8 (dk_at dksX14_town_2 4 rfl rfl)
theorem dX14_town_53 : decode cX14_town 53 = .ok (.aload_n 0, 1) := dk_42 (dk_at dksX14_town_2 7 rfl rfl)
theorem dX14_town_54 : decode cX14_town 54 = .ok (.invokevirtual 38, 3) := dk_182 0 38 (dk_at dksX14_town_2 8 rfl rfl)
theorem dX14_town_57 : decode cX14_town 57 = .ok (.athrow, 1) := dk_191 (dk_at dksX14_town_2 11 rfl rfl)
theorem dX14_town_58 : decode cX14_town 58 = .ok (.aload_n 0, 1) := dk_42 (dk_at dksX14_town_2 12 rfl rfl)
theorem dX14_town_59 : decode cX14_town 59 = .ok (.getfield 12, 3) := dk_180 0 12 (dk_at dksX14_town_2 13 rfl rfl)
theorem dX14_town_62 : decode cX14_town 62 = .ok (.areturn, 1) := dk_176 (dk_at dksX14_town_2 16 rfl rfl)
abbrev cX14_clause : ByteArray := prog_10_method_13_code
def yX14_clause : MethodName := ⟨RX14, "clause", "()V"⟩
def dkwX14_clause_4 : List UInt8 := [42, 182, 0, 38, 191, 42, 180, 0, 12, 89, 180, 0, 136, 4, 96, 181, 0, 136, 177]
abbrev dktX14_clause_4 : List UInt8 := dkwX14_clause_4 ++ []
def dkwX14_clause_3 : List UInt8 := [182, 0, 102, 42, 180, 0, 12, 42, 182, 0, 78, 181, 0, 130, 167, 0, 15, 42, 182, 0, 133, 167, 0, 8]
abbrev dktX14_clause_3 : List UInt8 := dkwX14_clause_3 ++ dktX14_clause_4
def dkwX14_clause_2 : List UInt8 := [42, 18, 120, 4, 182, 0, 122, 167, 0, 45, 42, 18, 126, 2, 182, 0, 122, 167, 0, 35, 42, 18, 128]
abbrev dktX14_clause_2 : List UInt8 := dkwX14_clause_2 ++ dktX14_clause_3
def dkwX14_clause_1 : List UInt8 := [171, 0, 0, 0, 0, 0, 0, 91, 0, 0, 0, 4, 0, 0, 0, 103, 0, 0, 0, 54, 0, 0, 0, 109, 0, 0, 0, 64, 0, 0, 0, 115, 0, 0, 0, 44, 0, 0, 0, 119, 0, 0, 0, 84]
abbrev dktX14_clause_1 : List UInt8 := dkwX14_clause_1 ++ dktX14_clause_2
def dkwX14_clause_0 : List UInt8 := [42, 182, 0, 34]
abbrev dktX14_clause_0 : List UInt8 := dkwX14_clause_0 ++ dktX14_clause_1
theorem dksX14_clause_0 : cX14_clause.data.toList.drop 0 = dktX14_clause_0 := by decide +kernel
theorem dksX14_clause_1 : cX14_clause.data.toList.drop 4 = dktX14_clause_1 := dk_seg dksX14_clause_0 4 rfl rfl
theorem dksX14_clause_2 : cX14_clause.data.toList.drop 48 = dktX14_clause_2 := dk_seg dksX14_clause_1 44 rfl rfl
theorem dksX14_clause_3 : cX14_clause.data.toList.drop 71 = dktX14_clause_3 := dk_seg dksX14_clause_2 23 rfl rfl
theorem dksX14_clause_4 : cX14_clause.data.toList.drop 95 = dktX14_clause_4 := dk_seg dksX14_clause_3 24 rfl rfl
theorem dX14_clause_0 : decode cX14_clause 0 = .ok (.aload_n 0, 1) := dk_42 (dk_at dksX14_clause_0 0 rfl rfl)
theorem dX14_clause_1 : decode cX14_clause 1 = .ok (.invokevirtual 34, 3) := dk_182 0 34 (dk_at dksX14_clause_0 1 rfl rfl)
theorem dX14_clause_4 : decode cX14_clause 4 = .ok (.lookupswitch 91 #[(103, 54), (109, 64), (115, 44), (119, 84)], 44) := by decide +kernel
theorem dX14_clause_48 : decode cX14_clause 48 = .ok (.aload_n 0, 1) := dk_42 (dk_at dksX14_clause_2 0 rfl rfl)
theorem dX14_clause_49 : decode cX14_clause 49 = .ok (.ldc 120, 2) := dk_18 120 (dk_at dksX14_clause_2 1 rfl rfl)
theorem dX14_clause_51 : decode cX14_clause 51 = .ok (.iconst 1, 1) := dk_4 (dk_at dksX14_clause_2 3 rfl rfl)
theorem dX14_clause_52 : decode cX14_clause 52 = .ok (.invokevirtual 122, 3) := dk_182 0 122 (dk_at dksX14_clause_2 4 rfl rfl)
theorem dX14_clause_55 : decode cX14_clause 55 = .ok (.goto 45, 3) := dk_167 0 45 (dk_at dksX14_clause_2 7 rfl rfl)
theorem dX14_clause_58 : decode cX14_clause 58 = .ok (.aload_n 0, 1) := dk_42 (dk_at dksX14_clause_2 10 rfl rfl)
theorem dX14_clause_59 : decode cX14_clause 59 = .ok (.ldc 126, 2) := dk_18 126 (dk_at dksX14_clause_2 11 rfl rfl)
theorem dX14_clause_61 : decode cX14_clause 61 = .ok (.iconst (-1), 1) := dk_2 (dk_at dksX14_clause_2 13 rfl rfl)
theorem dX14_clause_62 : decode cX14_clause 62 = .ok (.invokevirtual 122, 3) := dk_182 0 122 (dk_at dksX14_clause_2 14 rfl rfl)
theorem dX14_clause_65 : decode cX14_clause 65 = .ok (.goto 35, 3) := dk_167 0 35 (dk_at dksX14_clause_2 17 rfl rfl)
theorem dX14_clause_68 : decode cX14_clause 68 = .ok (.aload_n 0, 1) := dk_42 (dk_at dksX14_clause_2 20 rfl rfl)
theorem dX14_clause_69 : decode cX14_clause 69 = .ok (.ldc 128, 2) := dk_18 128 (dk_at dksX14_clause_2 21 rfl rfl)
theorem dX14_clause_71 : decode cX14_clause 71 = .ok (.invokevirtual 102, 3) := dk_182 0 102 (dk_at dksX14_clause_3 0 rfl rfl)
theorem dX14_clause_74 : decode cX14_clause 74 = .ok (.aload_n 0, 1) := dk_42 (dk_at dksX14_clause_3 3 rfl rfl)
theorem dX14_clause_75 : decode cX14_clause 75 = .ok (.getfield 12, 3) := dk_180 0 12 (dk_at dksX14_clause_3 4 rfl rfl)
theorem dX14_clause_78 : decode cX14_clause 78 = .ok (.aload_n 0, 1) := dk_42 (dk_at dksX14_clause_3 7 rfl rfl)
theorem dX14_clause_79 : decode cX14_clause 79 = .ok (.invokevirtual 78, 3) := dk_182 0 78 (dk_at dksX14_clause_3 8 rfl rfl)
theorem dX14_clause_82 : decode cX14_clause 82 = .ok (.putfield 130, 3) := dk_181 0 130 (dk_at dksX14_clause_3 11 rfl rfl)
theorem dX14_clause_85 : decode cX14_clause 85 = .ok (.goto 15, 3) := dk_167 0 15 (dk_at dksX14_clause_3 14 rfl rfl)
theorem dX14_clause_88 : decode cX14_clause 88 = .ok (.aload_n 0, 1) := dk_42 (dk_at dksX14_clause_3 17 rfl rfl)
theorem dX14_clause_89 : decode cX14_clause 89 = .ok (.invokevirtual 133, 3) := dk_182 0 133 (dk_at dksX14_clause_3 18 rfl rfl)
theorem dX14_clause_92 : decode cX14_clause 92 = .ok (.goto 8, 3) := dk_167 0 8 (dk_at dksX14_clause_3 21 rfl rfl)
theorem dX14_clause_95 : decode cX14_clause 95 = .ok (.aload_n 0, 1) := dk_42 (dk_at dksX14_clause_4 0 rfl rfl)
theorem dX14_clause_96 : decode cX14_clause 96 = .ok (.invokevirtual 38, 3) := dk_182 0 38 (dk_at dksX14_clause_4 1 rfl rfl)
theorem dX14_clause_99 : decode cX14_clause 99 = .ok (.athrow, 1) := dk_191 (dk_at dksX14_clause_4 4 rfl rfl)
theorem dX14_clause_100 : decode cX14_clause 100 = .ok (.aload_n 0, 1) := dk_42 (dk_at dksX14_clause_4 5 rfl rfl)
theorem dX14_clause_101 : decode cX14_clause 101 = .ok (.getfield 12, 3) := dk_180 0 12 (dk_at dksX14_clause_4 6 rfl rfl)
theorem dX14_clause_104 : decode cX14_clause 104 = .ok (.dup, 1) := dk_89 (dk_at dksX14_clause_4 9 rfl rfl)
theorem dX14_clause_105 : decode cX14_clause 105 = .ok (.getfield 136, 3) := dk_180 0 136 (dk_at dksX14_clause_4 10 rfl rfl)
theorem dX14_clause_108 : decode cX14_clause 108 = .ok (.iconst 1, 1) := dk_4 (dk_at dksX14_clause_4 13 rfl rfl)
theorem dX14_clause_109 : decode cX14_clause 109 = .ok (.iadd, 1) := dk_96 (dk_at dksX14_clause_4 14 rfl rfl)
theorem dX14_clause_110 : decode cX14_clause 110 = .ok (.putfield 136, 3) := dk_181 0 136 (dk_at dksX14_clause_4 15 rfl rfl)
theorem dX14_clause_113 : decode cX14_clause 113 = .ok (.return_, 1) := dk_177 (dk_at dksX14_clause_4 18 rfl rfl)
abbrev cX14_here : ByteArray := prog_10_method_2_code
def yX14_here : MethodName := ⟨RX14, "here", "()I"⟩
def dkwX14_here_1 : List UInt8 := [172]
abbrev dktX14_here_1 : List UInt8 := dkwX14_here_1 ++ []
def dkwX14_here_0 : List UInt8 := [42, 180, 0, 26, 42, 180, 0, 22, 162, 0, 15, 42, 180, 0, 18, 42, 180, 0, 26, 51, 167, 0, 4, 2]
abbrev dktX14_here_0 : List UInt8 := dkwX14_here_0 ++ dktX14_here_1
theorem dksX14_here_0 : cX14_here.data.toList.drop 0 = dktX14_here_0 := by decide +kernel
theorem dksX14_here_1 : cX14_here.data.toList.drop 24 = dktX14_here_1 := dk_seg dksX14_here_0 24 rfl rfl
theorem dX14_here_0 : decode cX14_here 0 = .ok (.aload_n 0, 1) := dk_42 (dk_at dksX14_here_0 0 rfl rfl)
theorem dX14_here_1 : decode cX14_here 1 = .ok (.getfield 26, 3) := dk_180 0 26 (dk_at dksX14_here_0 1 rfl rfl)
theorem dX14_here_4 : decode cX14_here 4 = .ok (.aload_n 0, 1) := dk_42 (dk_at dksX14_here_0 4 rfl rfl)
theorem dX14_here_5 : decode cX14_here 5 = .ok (.getfield 22, 3) := dk_180 0 22 (dk_at dksX14_here_0 5 rfl rfl)
theorem dX14_here_8 : decode cX14_here 8 = .ok (.if_icmp .ge 15, 3) := dk_162 0 15 (dk_at dksX14_here_0 8 rfl rfl)
theorem dX14_here_11 : decode cX14_here 11 = .ok (.aload_n 0, 1) := dk_42 (dk_at dksX14_here_0 11 rfl rfl)
theorem dX14_here_12 : decode cX14_here 12 = .ok (.getfield 18, 3) := dk_180 0 18 (dk_at dksX14_here_0 12 rfl rfl)
theorem dX14_here_15 : decode cX14_here 15 = .ok (.aload_n 0, 1) := dk_42 (dk_at dksX14_here_0 15 rfl rfl)
theorem dX14_here_16 : decode cX14_here 16 = .ok (.getfield 26, 3) := dk_180 0 26 (dk_at dksX14_here_0 16 rfl rfl)
theorem dX14_here_19 : decode cX14_here 19 = .ok (.baload, 1) := dk_51 (dk_at dksX14_here_0 19 rfl rfl)
theorem dX14_here_20 : decode cX14_here 20 = .ok (.goto 4, 3) := dk_167 0 4 (dk_at dksX14_here_0 20 rfl rfl)
theorem dX14_here_23 : decode cX14_here 23 = .ok (.iconst (-1), 1) := dk_2 (dk_at dksX14_here_0 23 rfl rfl)
theorem dX14_here_24 : decode cX14_here 24 = .ok (.ireturn, 1) := dk_172 (dk_at dksX14_here_1 0 rfl rfl)
abbrev cX14_tested : ByteArray := prog_10_method_11_code
def yX14_tested : MethodName := ⟨RX14, "tested", "(Ljava/lang/String;I)V"⟩
def dkwX14_tested_1 : List UInt8 := [187, 0, 109, 89, 28, 29, 104, 42, 182, 0, 73, 183, 0, 111, 182, 0, 93, 87, 177]
abbrev dktX14_tested_1 : List UInt8 := dkwX14_tested_1 ++ []
def dkwX14_tested_0 : List UInt8 := [42, 43, 182, 0, 102, 42, 182, 0, 78, 62, 42, 16, 32, 182, 0, 51, 42, 180, 0, 12, 180, 0, 106]
abbrev dktX14_tested_0 : List UInt8 := dkwX14_tested_0 ++ dktX14_tested_1
theorem dksX14_tested_0 : cX14_tested.data.toList.drop 0 = dktX14_tested_0 := by decide +kernel
theorem dksX14_tested_1 : cX14_tested.data.toList.drop 23 = dktX14_tested_1 := dk_seg dksX14_tested_0 23 rfl rfl
theorem dX14_tested_0 : decode cX14_tested 0 = .ok (.aload_n 0, 1) := dk_42 (dk_at dksX14_tested_0 0 rfl rfl)
theorem dX14_tested_1 : decode cX14_tested 1 = .ok (.aload_n 1, 1) := dk_43 (dk_at dksX14_tested_0 1 rfl rfl)
theorem dX14_tested_2 : decode cX14_tested 2 = .ok (.invokevirtual 102, 3) := dk_182 0 102 (dk_at dksX14_tested_0 2 rfl rfl)
theorem dX14_tested_5 : decode cX14_tested 5 = .ok (.aload_n 0, 1) := dk_42 (dk_at dksX14_tested_0 5 rfl rfl)
theorem dX14_tested_6 : decode cX14_tested 6 = .ok (.invokevirtual 78, 3) := dk_182 0 78 (dk_at dksX14_tested_0 6 rfl rfl)
theorem dX14_tested_9 : decode cX14_tested 9 = .ok (.istore_n 3, 1) := dk_62 (dk_at dksX14_tested_0 9 rfl rfl)
theorem dX14_tested_10 : decode cX14_tested 10 = .ok (.aload_n 0, 1) := dk_42 (dk_at dksX14_tested_0 10 rfl rfl)
theorem dX14_tested_11 : decode cX14_tested 11 = .ok (.bipush 32, 2) := dk_16 32 (dk_at dksX14_tested_0 11 rfl rfl)
theorem dX14_tested_13 : decode cX14_tested 13 = .ok (.invokevirtual 51, 3) := dk_182 0 51 (dk_at dksX14_tested_0 13 rfl rfl)
theorem dX14_tested_16 : decode cX14_tested 16 = .ok (.aload_n 0, 1) := dk_42 (dk_at dksX14_tested_0 16 rfl rfl)
theorem dX14_tested_17 : decode cX14_tested 17 = .ok (.getfield 12, 3) := dk_180 0 12 (dk_at dksX14_tested_0 17 rfl rfl)
theorem dX14_tested_20 : decode cX14_tested 20 = .ok (.getfield 106, 3) := dk_180 0 106 (dk_at dksX14_tested_0 20 rfl rfl)
theorem dX14_tested_23 : decode cX14_tested 23 = .ok (.new 109, 3) := dk_187 0 109 (dk_at dksX14_tested_1 0 rfl rfl)
theorem dX14_tested_26 : decode cX14_tested 26 = .ok (.dup, 1) := dk_89 (dk_at dksX14_tested_1 3 rfl rfl)
theorem dX14_tested_27 : decode cX14_tested 27 = .ok (.iload_n 2, 1) := dk_28 (dk_at dksX14_tested_1 4 rfl rfl)
theorem dX14_tested_28 : decode cX14_tested 28 = .ok (.iload_n 3, 1) := dk_29 (dk_at dksX14_tested_1 5 rfl rfl)
theorem dX14_tested_29 : decode cX14_tested 29 = .ok (.imul, 1) := dk_104 (dk_at dksX14_tested_1 6 rfl rfl)
theorem dX14_tested_30 : decode cX14_tested 30 = .ok (.aload_n 0, 1) := dk_42 (dk_at dksX14_tested_1 7 rfl rfl)
theorem dX14_tested_31 : decode cX14_tested 31 = .ok (.invokevirtual 73, 3) := dk_182 0 73 (dk_at dksX14_tested_1 8 rfl rfl)
theorem dX14_tested_34 : decode cX14_tested 34 = .ok (.invokespecial 111, 3) := dk_183 0 111 (dk_at dksX14_tested_1 11 rfl rfl)
theorem dX14_tested_37 : decode cX14_tested 37 = .ok (.invokevirtual 93, 3) := dk_182 0 93 (dk_at dksX14_tested_1 14 rfl rfl)
theorem dX14_tested_40 : decode cX14_tested 40 = .ok (.pop, 1) := dk_87 (dk_at dksX14_tested_1 17 rfl rfl)
theorem dX14_tested_41 : decode cX14_tested 41 = .ok (.return_, 1) := dk_177 (dk_at dksX14_tested_1 18 rfl rfl)
abbrev cX14_word : ByteArray := prog_10_method_5_code
def yX14_word : MethodName := ⟨RX14, "word", "(Ljava/lang/String;)V"⟩
def dkwX14_word_1 : List UInt8 := [167, 255, 236, 177]
abbrev dktX14_word_1 : List UInt8 := dkwX14_word_1 ++ []
def dkwX14_word_0 : List UInt8 := [3, 61, 28, 43, 182, 0, 42, 162, 0, 18, 42, 43, 28, 182, 0, 47, 182, 0, 51, 132, 2, 1]
abbrev dktX14_word_0 : List UInt8 := dkwX14_word_0 ++ dktX14_word_1
theorem dksX14_word_0 : cX14_word.data.toList.drop 0 = dktX14_word_0 := by decide +kernel
theorem dksX14_word_1 : cX14_word.data.toList.drop 22 = dktX14_word_1 := dk_seg dksX14_word_0 22 rfl rfl
theorem dX14_word_0 : decode cX14_word 0 = .ok (.iconst 0, 1) := dk_3 (dk_at dksX14_word_0 0 rfl rfl)
theorem dX14_word_1 : decode cX14_word 1 = .ok (.istore_n 2, 1) := dk_61 (dk_at dksX14_word_0 1 rfl rfl)
theorem dX14_word_2 : decode cX14_word 2 = .ok (.iload_n 2, 1) := dk_28 (dk_at dksX14_word_0 2 rfl rfl)
theorem dX14_word_3 : decode cX14_word 3 = .ok (.aload_n 1, 1) := dk_43 (dk_at dksX14_word_0 3 rfl rfl)
theorem dX14_word_4 : decode cX14_word 4 = .ok (.invokevirtual 42, 3) := dk_182 0 42 (dk_at dksX14_word_0 4 rfl rfl)
theorem dX14_word_7 : decode cX14_word 7 = .ok (.if_icmp .ge 18, 3) := dk_162 0 18 (dk_at dksX14_word_0 7 rfl rfl)
theorem dX14_word_10 : decode cX14_word 10 = .ok (.aload_n 0, 1) := dk_42 (dk_at dksX14_word_0 10 rfl rfl)
theorem dX14_word_11 : decode cX14_word 11 = .ok (.aload_n 1, 1) := dk_43 (dk_at dksX14_word_0 11 rfl rfl)
theorem dX14_word_12 : decode cX14_word 12 = .ok (.iload_n 2, 1) := dk_28 (dk_at dksX14_word_0 12 rfl rfl)
theorem dX14_word_13 : decode cX14_word 13 = .ok (.invokevirtual 47, 3) := dk_182 0 47 (dk_at dksX14_word_0 13 rfl rfl)
theorem dX14_word_16 : decode cX14_word 16 = .ok (.invokevirtual 51, 3) := dk_182 0 51 (dk_at dksX14_word_0 16 rfl rfl)
theorem dX14_word_19 : decode cX14_word 19 = .ok (.iinc 2 1, 3) := dk_132 2 1 (dk_at dksX14_word_0 19 rfl rfl)
theorem dX14_word_22 : decode cX14_word 22 = .ok (.goto (-20), 3) := dk_167 255 236 (dk_at dksX14_word_1 0 rfl rfl)
theorem dX14_word_25 : decode cX14_word 25 = .ok (.return_, 1) := dk_177 (dk_at dksX14_word_1 3 rfl rfl)
abbrev cX14_must : ByteArray := prog_10_method_4_code
def yX14_must : MethodName := ⟨RX14, "must", "(I)V"⟩
def dkwX14_must_0 : List UInt8 := [42, 182, 0, 34, 27, 159, 0, 8, 42, 182, 0, 38, 191, 42, 89, 180, 0, 26, 4, 96, 181, 0, 26, 177]
abbrev dktX14_must_0 : List UInt8 := dkwX14_must_0 ++ []
theorem dksX14_must_0 : cX14_must.data.toList.drop 0 = dktX14_must_0 := by decide +kernel
theorem dX14_must_0 : decode cX14_must 0 = .ok (.aload_n 0, 1) := dk_42 (dk_at dksX14_must_0 0 rfl rfl)
theorem dX14_must_1 : decode cX14_must 1 = .ok (.invokevirtual 34, 3) := dk_182 0 34 (dk_at dksX14_must_0 1 rfl rfl)
theorem dX14_must_4 : decode cX14_must 4 = .ok (.iload_n 1, 1) := dk_27 (dk_at dksX14_must_0 4 rfl rfl)
theorem dX14_must_5 : decode cX14_must 5 = .ok (.if_icmp .eq 8, 3) := dk_159 0 8 (dk_at dksX14_must_0 5 rfl rfl)
theorem dX14_must_8 : decode cX14_must 8 = .ok (.aload_n 0, 1) := dk_42 (dk_at dksX14_must_0 8 rfl rfl)
theorem dX14_must_9 : decode cX14_must 9 = .ok (.invokevirtual 38, 3) := dk_182 0 38 (dk_at dksX14_must_0 9 rfl rfl)
theorem dX14_must_12 : decode cX14_must 12 = .ok (.athrow, 1) := dk_191 (dk_at dksX14_must_0 12 rfl rfl)
theorem dX14_must_13 : decode cX14_must 13 = .ok (.aload_n 0, 1) := dk_42 (dk_at dksX14_must_0 13 rfl rfl)
theorem dX14_must_14 : decode cX14_must 14 = .ok (.dup, 1) := dk_89 (dk_at dksX14_must_0 14 rfl rfl)
theorem dX14_must_15 : decode cX14_must 15 = .ok (.getfield 26, 3) := dk_180 0 26 (dk_at dksX14_must_0 15 rfl rfl)
theorem dX14_must_18 : decode cX14_must 18 = .ok (.iconst 1, 1) := dk_4 (dk_at dksX14_must_0 18 rfl rfl)
theorem dX14_must_19 : decode cX14_must 19 = .ok (.iadd, 1) := dk_96 (dk_at dksX14_must_0 19 rfl rfl)
theorem dX14_must_20 : decode cX14_must 20 = .ok (.putfield 26, 3) := dk_181 0 26 (dk_at dksX14_must_0 20 rfl rfl)
theorem dX14_must_23 : decode cX14_must 23 = .ok (.return_, 1) := dk_177 (dk_at dksX14_must_0 23 rfl rfl)
abbrev cX14_off : ByteArray := prog_10_method_3_code
def yX14_off : MethodName := ⟨RX14, "off", "()LHatsDecide$Off;"⟩
def dkwX14_off_0 : List UInt8 := [187, 0, 29, 89, 42, 180, 0, 26, 183, 0, 31, 176]
abbrev dktX14_off_0 : List UInt8 := dkwX14_off_0 ++ []
theorem dksX14_off_0 : cX14_off.data.toList.drop 0 = dktX14_off_0 := by decide +kernel
theorem dX14_off_0 : decode cX14_off 0 = .ok (.new 29, 3) := dk_187 0 29 (dk_at dksX14_off_0 0 rfl rfl)
theorem dX14_off_3 : decode cX14_off 3 = .ok (.dup, 1) := dk_89 (dk_at dksX14_off_0 3 rfl rfl)
theorem dX14_off_4 : decode cX14_off 4 = .ok (.aload_n 0, 1) := dk_42 (dk_at dksX14_off_0 4 rfl rfl)
theorem dX14_off_5 : decode cX14_off 5 = .ok (.getfield 26, 3) := dk_180 0 26 (dk_at dksX14_off_0 5 rfl rfl)
theorem dX14_off_8 : decode cX14_off 8 = .ok (.invokespecial 31, 3) := dk_183 0 31 (dk_at dksX14_off_0 8 rfl rfl)
theorem dX14_off_11 : decode cX14_off 11 = .ok (.areturn, 1) := dk_176 (dk_at dksX14_off_0 11 rfl rfl)
abbrev cX14_number : ByteArray := prog_10_method_6_code
def yX14_number : MethodName := ⟨RX14, "number", "()I"⟩
def dkwX14_number_3 : List UInt8 := [167, 255, 209, 27, 172]
abbrev dktX14_number_3 : List UInt8 := dkwX14_number_3 ++ []
def dkwX14_number_2 : List UInt8 := [180, 0, 18, 42, 89, 180, 0, 26, 90, 4, 96, 181, 0, 26, 51, 96, 16, 48, 100, 60, 132, 2, 1]
abbrev dktX14_number_2 : List UInt8 := dkwX14_number_2 ++ dktX14_number_3
def dkwX14_number_1 : List UInt8 := [5, 162, 0, 48, 42, 182, 0, 34, 16, 48, 16, 57, 184, 0, 54, 153, 0, 34, 16, 10, 27, 104, 42]
abbrev dktX14_number_1 : List UInt8 := dkwX14_number_1 ++ dktX14_number_2
def dkwX14_number_0 : List UInt8 := [42, 182, 0, 34, 16, 48, 16, 57, 184, 0, 54, 154, 0, 8, 42, 182, 0, 38, 191, 3, 60, 3, 61, 28]
abbrev dktX14_number_0 : List UInt8 := dkwX14_number_0 ++ dktX14_number_1
theorem dksX14_number_0 : cX14_number.data.toList.drop 0 = dktX14_number_0 := by decide +kernel
theorem dksX14_number_1 : cX14_number.data.toList.drop 24 = dktX14_number_1 := dk_seg dksX14_number_0 24 rfl rfl
theorem dksX14_number_2 : cX14_number.data.toList.drop 47 = dktX14_number_2 := dk_seg dksX14_number_1 23 rfl rfl
theorem dksX14_number_3 : cX14_number.data.toList.drop 70 = dktX14_number_3 := dk_seg dksX14_number_2 23 rfl rfl
theorem dX14_number_0 : decode cX14_number 0 = .ok (.aload_n 0, 1) := dk_42 (dk_at dksX14_number_0 0 rfl rfl)
theorem dX14_number_1 : decode cX14_number 1 = .ok (.invokevirtual 34, 3) := dk_182 0 34 (dk_at dksX14_number_0 1 rfl rfl)
theorem dX14_number_4 : decode cX14_number 4 = .ok (.bipush 48, 2) := dk_16 48 (dk_at dksX14_number_0 4 rfl rfl)
theorem dX14_number_6 : decode cX14_number 6 = .ok (.bipush 57, 2) := dk_16 57 (dk_at dksX14_number_0 6 rfl rfl)
theorem dX14_number_8 : decode cX14_number 8 = .ok (.invokestatic 54, 3) := dk_184 0 54 (dk_at dksX14_number_0 8 rfl rfl)
theorem dX14_number_11 : decode cX14_number 11 = .ok (.ifCond .ne 8, 3) := dk_154 0 8 (dk_at dksX14_number_0 11 rfl rfl)
theorem dX14_number_14 : decode cX14_number 14 = .ok (.aload_n 0, 1) := dk_42 (dk_at dksX14_number_0 14 rfl rfl)
theorem dX14_number_15 : decode cX14_number 15 = .ok (.invokevirtual 38, 3) := dk_182 0 38 (dk_at dksX14_number_0 15 rfl rfl)
theorem dX14_number_18 : decode cX14_number 18 = .ok (.athrow, 1) := dk_191 (dk_at dksX14_number_0 18 rfl rfl)
theorem dX14_number_19 : decode cX14_number 19 = .ok (.iconst 0, 1) := dk_3 (dk_at dksX14_number_0 19 rfl rfl)
theorem dX14_number_20 : decode cX14_number 20 = .ok (.istore_n 1, 1) := dk_60 (dk_at dksX14_number_0 20 rfl rfl)
theorem dX14_number_21 : decode cX14_number 21 = .ok (.iconst 0, 1) := dk_3 (dk_at dksX14_number_0 21 rfl rfl)
theorem dX14_number_22 : decode cX14_number 22 = .ok (.istore_n 2, 1) := dk_61 (dk_at dksX14_number_0 22 rfl rfl)
theorem dX14_number_23 : decode cX14_number 23 = .ok (.iload_n 2, 1) := dk_28 (dk_at dksX14_number_0 23 rfl rfl)
theorem dX14_number_24 : decode cX14_number 24 = .ok (.iconst 2, 1) := dk_5 (dk_at dksX14_number_1 0 rfl rfl)
theorem dX14_number_25 : decode cX14_number 25 = .ok (.if_icmp .ge 48, 3) := dk_162 0 48 (dk_at dksX14_number_1 1 rfl rfl)
theorem dX14_number_28 : decode cX14_number 28 = .ok (.aload_n 0, 1) := dk_42 (dk_at dksX14_number_1 4 rfl rfl)
theorem dX14_number_29 : decode cX14_number 29 = .ok (.invokevirtual 34, 3) := dk_182 0 34 (dk_at dksX14_number_1 5 rfl rfl)
theorem dX14_number_32 : decode cX14_number 32 = .ok (.bipush 48, 2) := dk_16 48 (dk_at dksX14_number_1 8 rfl rfl)
theorem dX14_number_34 : decode cX14_number 34 = .ok (.bipush 57, 2) := dk_16 57 (dk_at dksX14_number_1 10 rfl rfl)
theorem dX14_number_36 : decode cX14_number 36 = .ok (.invokestatic 54, 3) := dk_184 0 54 (dk_at dksX14_number_1 12 rfl rfl)
theorem dX14_number_39 : decode cX14_number 39 = .ok (.ifCond .eq 34, 3) := dk_153 0 34 (dk_at dksX14_number_1 15 rfl rfl)
theorem dX14_number_42 : decode cX14_number 42 = .ok (.bipush 10, 2) := dk_16 10 (dk_at dksX14_number_1 18 rfl rfl)
theorem dX14_number_44 : decode cX14_number 44 = .ok (.iload_n 1, 1) := dk_27 (dk_at dksX14_number_1 20 rfl rfl)
theorem dX14_number_45 : decode cX14_number 45 = .ok (.imul, 1) := dk_104 (dk_at dksX14_number_1 21 rfl rfl)
theorem dX14_number_46 : decode cX14_number 46 = .ok (.aload_n 0, 1) := dk_42 (dk_at dksX14_number_1 22 rfl rfl)
theorem dX14_number_47 : decode cX14_number 47 = .ok (.getfield 18, 3) := dk_180 0 18 (dk_at dksX14_number_2 0 rfl rfl)
theorem dX14_number_50 : decode cX14_number 50 = .ok (.aload_n 0, 1) := dk_42 (dk_at dksX14_number_2 3 rfl rfl)
theorem dX14_number_51 : decode cX14_number 51 = .ok (.dup, 1) := dk_89 (dk_at dksX14_number_2 4 rfl rfl)
theorem dX14_number_52 : decode cX14_number 52 = .ok (.getfield 26, 3) := dk_180 0 26 (dk_at dksX14_number_2 5 rfl rfl)
theorem dX14_number_55 : decode cX14_number 55 = .ok (.dup_x1, 1) := dk_90 (dk_at dksX14_number_2 8 rfl rfl)
theorem dX14_number_56 : decode cX14_number 56 = .ok (.iconst 1, 1) := dk_4 (dk_at dksX14_number_2 9 rfl rfl)
theorem dX14_number_57 : decode cX14_number 57 = .ok (.iadd, 1) := dk_96 (dk_at dksX14_number_2 10 rfl rfl)
theorem dX14_number_58 : decode cX14_number 58 = .ok (.putfield 26, 3) := dk_181 0 26 (dk_at dksX14_number_2 11 rfl rfl)
theorem dX14_number_61 : decode cX14_number 61 = .ok (.baload, 1) := dk_51 (dk_at dksX14_number_2 14 rfl rfl)
theorem dX14_number_62 : decode cX14_number 62 = .ok (.iadd, 1) := dk_96 (dk_at dksX14_number_2 15 rfl rfl)
theorem dX14_number_63 : decode cX14_number 63 = .ok (.bipush 48, 2) := dk_16 48 (dk_at dksX14_number_2 16 rfl rfl)
theorem dX14_number_65 : decode cX14_number 65 = .ok (.isub, 1) := dk_100 (dk_at dksX14_number_2 18 rfl rfl)
theorem dX14_number_66 : decode cX14_number 66 = .ok (.istore_n 1, 1) := dk_60 (dk_at dksX14_number_2 19 rfl rfl)
theorem dX14_number_67 : decode cX14_number 67 = .ok (.iinc 2 1, 3) := dk_132 2 1 (dk_at dksX14_number_2 20 rfl rfl)
theorem dX14_number_70 : decode cX14_number 70 = .ok (.goto (-47), 3) := dk_167 255 209 (dk_at dksX14_number_3 0 rfl rfl)
theorem dX14_number_73 : decode cX14_number 73 = .ok (.iload_n 1, 1) := dk_27 (dk_at dksX14_number_3 3 rfl rfl)
theorem dX14_number_74 : decode cX14_number 74 = .ok (.ireturn, 1) := dk_172 (dk_at dksX14_number_3 4 rfl rfl)
abbrev cX14_some : ByteArray := prog_10_method_10_code
def yX14_some : MethodName := ⟨RX14, "some", "()LHatsDecide$Test;"⟩
def dkwX14_some_2 : List UInt8 := [182, 0, 99, 182, 0, 93, 87, 167, 255, 225, 43, 176]
abbrev dktX14_some_2 : List UInt8 := dkwX14_some_2 ++ []
def dkwX14_some_1 : List UInt8 := [182, 0, 34, 16, 124, 160, 0, 28, 42, 89, 180, 0, 26, 4, 96, 181, 0, 26, 43, 180, 0, 89, 42]
abbrev dktX14_some_1 : List UInt8 := dkwX14_some_1 ++ dktX14_some_2
def dkwX14_some_0 : List UInt8 := [187, 0, 84, 89, 3, 183, 0, 86, 76, 43, 180, 0, 89, 42, 182, 0, 99, 182, 0, 93, 87, 42]
abbrev dktX14_some_0 : List UInt8 := dkwX14_some_0 ++ dktX14_some_1
theorem dksX14_some_0 : cX14_some.data.toList.drop 0 = dktX14_some_0 := by decide +kernel
theorem dksX14_some_1 : cX14_some.data.toList.drop 22 = dktX14_some_1 := dk_seg dksX14_some_0 22 rfl rfl
theorem dksX14_some_2 : cX14_some.data.toList.drop 45 = dktX14_some_2 := dk_seg dksX14_some_1 23 rfl rfl
theorem dX14_some_0 : decode cX14_some 0 = .ok (.new 84, 3) := dk_187 0 84 (dk_at dksX14_some_0 0 rfl rfl)
theorem dX14_some_3 : decode cX14_some 3 = .ok (.dup, 1) := dk_89 (dk_at dksX14_some_0 3 rfl rfl)
theorem dX14_some_4 : decode cX14_some 4 = .ok (.iconst 0, 1) := dk_3 (dk_at dksX14_some_0 4 rfl rfl)
theorem dX14_some_5 : decode cX14_some 5 = .ok (.invokespecial 86, 3) := dk_183 0 86 (dk_at dksX14_some_0 5 rfl rfl)
theorem dX14_some_8 : decode cX14_some 8 = .ok (.astore_n 1, 1) := dk_76 (dk_at dksX14_some_0 8 rfl rfl)
theorem dX14_some_9 : decode cX14_some 9 = .ok (.aload_n 1, 1) := dk_43 (dk_at dksX14_some_0 9 rfl rfl)
theorem dX14_some_10 : decode cX14_some 10 = .ok (.getfield 89, 3) := dk_180 0 89 (dk_at dksX14_some_0 10 rfl rfl)
theorem dX14_some_13 : decode cX14_some 13 = .ok (.aload_n 0, 1) := dk_42 (dk_at dksX14_some_0 13 rfl rfl)
theorem dX14_some_14 : decode cX14_some 14 = .ok (.invokevirtual 99, 3) := dk_182 0 99 (dk_at dksX14_some_0 14 rfl rfl)
theorem dX14_some_17 : decode cX14_some 17 = .ok (.invokevirtual 93, 3) := dk_182 0 93 (dk_at dksX14_some_0 17 rfl rfl)
theorem dX14_some_20 : decode cX14_some 20 = .ok (.pop, 1) := dk_87 (dk_at dksX14_some_0 20 rfl rfl)
theorem dX14_some_21 : decode cX14_some 21 = .ok (.aload_n 0, 1) := dk_42 (dk_at dksX14_some_0 21 rfl rfl)
theorem dX14_some_22 : decode cX14_some 22 = .ok (.invokevirtual 34, 3) := dk_182 0 34 (dk_at dksX14_some_1 0 rfl rfl)
theorem dX14_some_25 : decode cX14_some 25 = .ok (.bipush 124, 2) := dk_16 124 (dk_at dksX14_some_1 3 rfl rfl)
theorem dX14_some_27 : decode cX14_some 27 = .ok (.if_icmp .ne 28, 3) := dk_160 0 28 (dk_at dksX14_some_1 5 rfl rfl)
theorem dX14_some_30 : decode cX14_some 30 = .ok (.aload_n 0, 1) := dk_42 (dk_at dksX14_some_1 8 rfl rfl)
theorem dX14_some_31 : decode cX14_some 31 = .ok (.dup, 1) := dk_89 (dk_at dksX14_some_1 9 rfl rfl)
theorem dX14_some_32 : decode cX14_some 32 = .ok (.getfield 26, 3) := dk_180 0 26 (dk_at dksX14_some_1 10 rfl rfl)
theorem dX14_some_35 : decode cX14_some 35 = .ok (.iconst 1, 1) := dk_4 (dk_at dksX14_some_1 13 rfl rfl)
theorem dX14_some_36 : decode cX14_some 36 = .ok (.iadd, 1) := dk_96 (dk_at dksX14_some_1 14 rfl rfl)
theorem dX14_some_37 : decode cX14_some 37 = .ok (.putfield 26, 3) := dk_181 0 26 (dk_at dksX14_some_1 15 rfl rfl)
theorem dX14_some_40 : decode cX14_some 40 = .ok (.aload_n 1, 1) := dk_43 (dk_at dksX14_some_1 18 rfl rfl)
theorem dX14_some_41 : decode cX14_some 41 = .ok (.getfield 89, 3) := dk_180 0 89 (dk_at dksX14_some_1 19 rfl rfl)
theorem dX14_some_44 : decode cX14_some 44 = .ok (.aload_n 0, 1) := dk_42 (dk_at dksX14_some_1 22 rfl rfl)
theorem dX14_some_45 : decode cX14_some 45 = .ok (.invokevirtual 99, 3) := dk_182 0 99 (dk_at dksX14_some_2 0 rfl rfl)
theorem dX14_some_48 : decode cX14_some 48 = .ok (.invokevirtual 93, 3) := dk_182 0 93 (dk_at dksX14_some_2 3 rfl rfl)
theorem dX14_some_51 : decode cX14_some 51 = .ok (.pop, 1) := dk_87 (dk_at dksX14_some_2 6 rfl rfl)
theorem dX14_some_52 : decode cX14_some 52 = .ok (.goto (-31), 3) := dk_167 255 225 (dk_at dksX14_some_2 7 rfl rfl)
theorem dX14_some_55 : decode cX14_some 55 = .ok (.aload_n 1, 1) := dk_43 (dk_at dksX14_some_2 10 rfl rfl)
theorem dX14_some_56 : decode cX14_some 56 = .ok (.areturn, 1) := dk_176 (dk_at dksX14_some_2 11 rfl rfl)
abbrev cX14_all : ByteArray := prog_10_method_9_code
def yX14_all : MethodName := ⟨RX14, "all", "()LHatsDecide$Test;"⟩
def dkwX14_all_2 : List UInt8 := [182, 0, 66, 182, 0, 93, 87, 167, 255, 225, 43, 176]
abbrev dktX14_all_2 : List UInt8 := dkwX14_all_2 ++ []
def dkwX14_all_1 : List UInt8 := [182, 0, 34, 16, 38, 160, 0, 28, 42, 89, 180, 0, 26, 4, 96, 181, 0, 26, 43, 180, 0, 89, 42]
abbrev dktX14_all_1 : List UInt8 := dkwX14_all_1 ++ dktX14_all_2
def dkwX14_all_0 : List UInt8 := [187, 0, 84, 89, 4, 183, 0, 86, 76, 43, 180, 0, 89, 42, 182, 0, 66, 182, 0, 93, 87, 42]
abbrev dktX14_all_0 : List UInt8 := dkwX14_all_0 ++ dktX14_all_1
theorem dksX14_all_0 : cX14_all.data.toList.drop 0 = dktX14_all_0 := by decide +kernel
theorem dksX14_all_1 : cX14_all.data.toList.drop 22 = dktX14_all_1 := dk_seg dksX14_all_0 22 rfl rfl
theorem dksX14_all_2 : cX14_all.data.toList.drop 45 = dktX14_all_2 := dk_seg dksX14_all_1 23 rfl rfl
theorem dX14_all_0 : decode cX14_all 0 = .ok (.new 84, 3) := dk_187 0 84 (dk_at dksX14_all_0 0 rfl rfl)
theorem dX14_all_3 : decode cX14_all 3 = .ok (.dup, 1) := dk_89 (dk_at dksX14_all_0 3 rfl rfl)
theorem dX14_all_4 : decode cX14_all 4 = .ok (.iconst 1, 1) := dk_4 (dk_at dksX14_all_0 4 rfl rfl)
theorem dX14_all_5 : decode cX14_all 5 = .ok (.invokespecial 86, 3) := dk_183 0 86 (dk_at dksX14_all_0 5 rfl rfl)
theorem dX14_all_8 : decode cX14_all 8 = .ok (.astore_n 1, 1) := dk_76 (dk_at dksX14_all_0 8 rfl rfl)
theorem dX14_all_9 : decode cX14_all 9 = .ok (.aload_n 1, 1) := dk_43 (dk_at dksX14_all_0 9 rfl rfl)
theorem dX14_all_10 : decode cX14_all 10 = .ok (.getfield 89, 3) := dk_180 0 89 (dk_at dksX14_all_0 10 rfl rfl)
theorem dX14_all_13 : decode cX14_all 13 = .ok (.aload_n 0, 1) := dk_42 (dk_at dksX14_all_0 13 rfl rfl)
theorem dX14_all_14 : decode cX14_all 14 = .ok (.invokevirtual 66, 3) := dk_182 0 66 (dk_at dksX14_all_0 14 rfl rfl)
theorem dX14_all_17 : decode cX14_all 17 = .ok (.invokevirtual 93, 3) := dk_182 0 93 (dk_at dksX14_all_0 17 rfl rfl)
theorem dX14_all_20 : decode cX14_all 20 = .ok (.pop, 1) := dk_87 (dk_at dksX14_all_0 20 rfl rfl)
theorem dX14_all_21 : decode cX14_all 21 = .ok (.aload_n 0, 1) := dk_42 (dk_at dksX14_all_0 21 rfl rfl)
theorem dX14_all_22 : decode cX14_all 22 = .ok (.invokevirtual 34, 3) := dk_182 0 34 (dk_at dksX14_all_1 0 rfl rfl)
theorem dX14_all_25 : decode cX14_all 25 = .ok (.bipush 38, 2) := dk_16 38 (dk_at dksX14_all_1 3 rfl rfl)
theorem dX14_all_27 : decode cX14_all 27 = .ok (.if_icmp .ne 28, 3) := dk_160 0 28 (dk_at dksX14_all_1 5 rfl rfl)
theorem dX14_all_30 : decode cX14_all 30 = .ok (.aload_n 0, 1) := dk_42 (dk_at dksX14_all_1 8 rfl rfl)
theorem dX14_all_31 : decode cX14_all 31 = .ok (.dup, 1) := dk_89 (dk_at dksX14_all_1 9 rfl rfl)
theorem dX14_all_32 : decode cX14_all 32 = .ok (.getfield 26, 3) := dk_180 0 26 (dk_at dksX14_all_1 10 rfl rfl)
theorem dX14_all_35 : decode cX14_all 35 = .ok (.iconst 1, 1) := dk_4 (dk_at dksX14_all_1 13 rfl rfl)
theorem dX14_all_36 : decode cX14_all 36 = .ok (.iadd, 1) := dk_96 (dk_at dksX14_all_1 14 rfl rfl)
theorem dX14_all_37 : decode cX14_all 37 = .ok (.putfield 26, 3) := dk_181 0 26 (dk_at dksX14_all_1 15 rfl rfl)
theorem dX14_all_40 : decode cX14_all 40 = .ok (.aload_n 1, 1) := dk_43 (dk_at dksX14_all_1 18 rfl rfl)
theorem dX14_all_41 : decode cX14_all 41 = .ok (.getfield 89, 3) := dk_180 0 89 (dk_at dksX14_all_1 19 rfl rfl)
theorem dX14_all_44 : decode cX14_all 44 = .ok (.aload_n 0, 1) := dk_42 (dk_at dksX14_all_1 22 rfl rfl)
theorem dX14_all_45 : decode cX14_all 45 = .ok (.invokevirtual 66, 3) := dk_182 0 66 (dk_at dksX14_all_2 0 rfl rfl)
theorem dX14_all_48 : decode cX14_all 48 = .ok (.invokevirtual 93, 3) := dk_182 0 93 (dk_at dksX14_all_2 3 rfl rfl)
theorem dX14_all_51 : decode cX14_all 51 = .ok (.pop, 1) := dk_87 (dk_at dksX14_all_2 6 rfl rfl)
theorem dX14_all_52 : decode cX14_all 52 = .ok (.goto (-31), 3) := dk_167 255 225 (dk_at dksX14_all_2 7 rfl rfl)
theorem dX14_all_55 : decode cX14_all 55 = .ok (.aload_n 1, 1) := dk_43 (dk_at dksX14_all_2 10 rfl rfl)
theorem dX14_all_56 : decode cX14_all 56 = .ok (.areturn, 1) := dk_176 (dk_at dksX14_all_2 11 rfl rfl)
abbrev cX14_factor : ByteArray := prog_10_method_8_code
def yX14_factor : MethodName := ⟨RX14, "factor", "()LHatsDecide$Test;"⟩
def dkwX14_factor_7 : List UInt8 := [27, 28, 42, 182, 0, 78, 183, 0, 81, 176, 42, 182, 0, 38, 191]
abbrev dktX14_factor_7 : List UInt8 := dkwX14_factor_7 ++ []
def dkwX14_factor_6 : List UInt8 := [16, 62, 159, 0, 8, 42, 182, 0, 38, 191, 42, 89, 180, 0, 26, 4, 96, 181, 0, 26, 187, 0, 76, 89]
abbrev dktX14_factor_6 : List UInt8 := dkwX14_factor_6 ++ dktX14_factor_7
def dkwX14_factor_5 : List UInt8 := [181, 0, 26, 51, 60, 42, 182, 0, 34, 61, 28, 16, 60, 159, 0, 20, 28, 16, 61, 159, 0, 14, 28]
abbrev dktX14_factor_5 : List UInt8 := dkwX14_factor_5 ++ dktX14_factor_6
def dkwX14_factor_4 : List UInt8 := [180, 0, 58, 4, 100, 181, 0, 58, 43, 176, 42, 180, 0, 18, 42, 89, 180, 0, 26, 90, 4, 96]
abbrev dktX14_factor_4 : List UInt8 := dkwX14_factor_4 ++ dktX14_factor_5
def dkwX14_factor_3 : List UInt8 := [181, 0, 58, 43, 176, 42, 182, 0, 61, 42, 182, 0, 73, 76, 42, 16, 41, 182, 0, 51, 42, 89]
abbrev dktX14_factor_3 : List UInt8 := dkwX14_factor_3 ++ dktX14_factor_4
def dkwX14_factor_2 : List UInt8 := [42, 182, 0, 61, 187, 0, 64, 89, 42, 182, 0, 66, 183, 0, 70, 76, 42, 89, 180, 0, 58, 4, 100]
abbrev dktX14_factor_2 : List UInt8 := dkwX14_factor_2 ++ dktX14_factor_3
def dkwX14_factor_1 : List UInt8 := [171, 0, 0, 0, 0, 0, 0, 200, 0, 0, 0, 8, 0, 0, 0, 33, 0, 0, 0, 76, 0, 0, 0, 40, 0, 0, 0, 104, 0, 0, 0, 97, 0, 0, 0, 131, 0, 0, 0, 100, 0, 0, 0, 131, 0, 0, 0, 101, 0, 0, 0, 131, 0, 0, 0, 107, 0, 0, 0, 131, 0, 0, 0, 116, 0, 0, 0, 131, 0, 0, 0, 117, 0, 0, 0, 131]
abbrev dktX14_factor_1 : List UInt8 := dkwX14_factor_1 ++ dktX14_factor_2
def dkwX14_factor_0 : List UInt8 := [42, 182, 0, 34]
abbrev dktX14_factor_0 : List UInt8 := dkwX14_factor_0 ++ dktX14_factor_1
theorem dksX14_factor_0 : cX14_factor.data.toList.drop 0 = dktX14_factor_0 := by decide +kernel
theorem dksX14_factor_1 : cX14_factor.data.toList.drop 4 = dktX14_factor_1 := dk_seg dksX14_factor_0 4 rfl rfl
theorem dksX14_factor_2 : cX14_factor.data.toList.drop 80 = dktX14_factor_2 := dk_seg dksX14_factor_1 76 rfl rfl
theorem dksX14_factor_3 : cX14_factor.data.toList.drop 103 = dktX14_factor_3 := dk_seg dksX14_factor_2 23 rfl rfl
theorem dksX14_factor_4 : cX14_factor.data.toList.drop 125 = dktX14_factor_4 := dk_seg dksX14_factor_3 22 rfl rfl
theorem dksX14_factor_5 : cX14_factor.data.toList.drop 147 = dktX14_factor_5 := dk_seg dksX14_factor_4 22 rfl rfl
theorem dksX14_factor_6 : cX14_factor.data.toList.drop 170 = dktX14_factor_6 := dk_seg dksX14_factor_5 23 rfl rfl
theorem dksX14_factor_7 : cX14_factor.data.toList.drop 194 = dktX14_factor_7 := dk_seg dksX14_factor_6 24 rfl rfl
theorem dX14_factor_0 : decode cX14_factor 0 = .ok (.aload_n 0, 1) := dk_42 (dk_at dksX14_factor_0 0 rfl rfl)
theorem dX14_factor_1 : decode cX14_factor 1 = .ok (.invokevirtual 34, 3) := dk_182 0 34 (dk_at dksX14_factor_0 1 rfl rfl)
theorem dX14_factor_4 : decode cX14_factor 4 = .ok (.lookupswitch 200 #[(33, 76), (40, 104), (97, 131), (100, 131), (101, 131), (107, 131), (116, 131), (117, 131)], 76) := by decide +kernel
theorem dX14_factor_80 : decode cX14_factor 80 = .ok (.aload_n 0, 1) := dk_42 (dk_at dksX14_factor_2 0 rfl rfl)
theorem dX14_factor_81 : decode cX14_factor 81 = .ok (.invokevirtual 61, 3) := dk_182 0 61 (dk_at dksX14_factor_2 1 rfl rfl)
theorem dX14_factor_84 : decode cX14_factor 84 = .ok (.new 64, 3) := dk_187 0 64 (dk_at dksX14_factor_2 4 rfl rfl)
theorem dX14_factor_87 : decode cX14_factor 87 = .ok (.dup, 1) := dk_89 (dk_at dksX14_factor_2 7 rfl rfl)
theorem dX14_factor_88 : decode cX14_factor 88 = .ok (.aload_n 0, 1) := dk_42 (dk_at dksX14_factor_2 8 rfl rfl)
theorem dX14_factor_89 : decode cX14_factor 89 = .ok (.invokevirtual 66, 3) := dk_182 0 66 (dk_at dksX14_factor_2 9 rfl rfl)
theorem dX14_factor_92 : decode cX14_factor 92 = .ok (.invokespecial 70, 3) := dk_183 0 70 (dk_at dksX14_factor_2 12 rfl rfl)
theorem dX14_factor_95 : decode cX14_factor 95 = .ok (.astore_n 1, 1) := dk_76 (dk_at dksX14_factor_2 15 rfl rfl)
theorem dX14_factor_96 : decode cX14_factor 96 = .ok (.aload_n 0, 1) := dk_42 (dk_at dksX14_factor_2 16 rfl rfl)
theorem dX14_factor_97 : decode cX14_factor 97 = .ok (.dup, 1) := dk_89 (dk_at dksX14_factor_2 17 rfl rfl)
theorem dX14_factor_98 : decode cX14_factor 98 = .ok (.getfield 58, 3) := dk_180 0 58 (dk_at dksX14_factor_2 18 rfl rfl)
theorem dX14_factor_101 : decode cX14_factor 101 = .ok (.iconst 1, 1) := dk_4 (dk_at dksX14_factor_2 21 rfl rfl)
theorem dX14_factor_102 : decode cX14_factor 102 = .ok (.isub, 1) := dk_100 (dk_at dksX14_factor_2 22 rfl rfl)
theorem dX14_factor_103 : decode cX14_factor 103 = .ok (.putfield 58, 3) := dk_181 0 58 (dk_at dksX14_factor_3 0 rfl rfl)
theorem dX14_factor_106 : decode cX14_factor 106 = .ok (.aload_n 1, 1) := dk_43 (dk_at dksX14_factor_3 3 rfl rfl)
theorem dX14_factor_107 : decode cX14_factor 107 = .ok (.areturn, 1) := dk_176 (dk_at dksX14_factor_3 4 rfl rfl)
theorem dX14_factor_108 : decode cX14_factor 108 = .ok (.aload_n 0, 1) := dk_42 (dk_at dksX14_factor_3 5 rfl rfl)
theorem dX14_factor_109 : decode cX14_factor 109 = .ok (.invokevirtual 61, 3) := dk_182 0 61 (dk_at dksX14_factor_3 6 rfl rfl)
theorem dX14_factor_112 : decode cX14_factor 112 = .ok (.aload_n 0, 1) := dk_42 (dk_at dksX14_factor_3 9 rfl rfl)
theorem dX14_factor_113 : decode cX14_factor 113 = .ok (.invokevirtual 73, 3) := dk_182 0 73 (dk_at dksX14_factor_3 10 rfl rfl)
theorem dX14_factor_116 : decode cX14_factor 116 = .ok (.astore_n 1, 1) := dk_76 (dk_at dksX14_factor_3 13 rfl rfl)
theorem dX14_factor_117 : decode cX14_factor 117 = .ok (.aload_n 0, 1) := dk_42 (dk_at dksX14_factor_3 14 rfl rfl)
theorem dX14_factor_118 : decode cX14_factor 118 = .ok (.bipush 41, 2) := dk_16 41 (dk_at dksX14_factor_3 15 rfl rfl)
theorem dX14_factor_120 : decode cX14_factor 120 = .ok (.invokevirtual 51, 3) := dk_182 0 51 (dk_at dksX14_factor_3 17 rfl rfl)
theorem dX14_factor_123 : decode cX14_factor 123 = .ok (.aload_n 0, 1) := dk_42 (dk_at dksX14_factor_3 20 rfl rfl)
theorem dX14_factor_124 : decode cX14_factor 124 = .ok (.dup, 1) := dk_89 (dk_at dksX14_factor_3 21 rfl rfl)
theorem dX14_factor_125 : decode cX14_factor 125 = .ok (.getfield 58, 3) := dk_180 0 58 (dk_at dksX14_factor_4 0 rfl rfl)
theorem dX14_factor_128 : decode cX14_factor 128 = .ok (.iconst 1, 1) := dk_4 (dk_at dksX14_factor_4 3 rfl rfl)
theorem dX14_factor_129 : decode cX14_factor 129 = .ok (.isub, 1) := dk_100 (dk_at dksX14_factor_4 4 rfl rfl)
theorem dX14_factor_130 : decode cX14_factor 130 = .ok (.putfield 58, 3) := dk_181 0 58 (dk_at dksX14_factor_4 5 rfl rfl)
theorem dX14_factor_133 : decode cX14_factor 133 = .ok (.aload_n 1, 1) := dk_43 (dk_at dksX14_factor_4 8 rfl rfl)
theorem dX14_factor_134 : decode cX14_factor 134 = .ok (.areturn, 1) := dk_176 (dk_at dksX14_factor_4 9 rfl rfl)
theorem dX14_factor_135 : decode cX14_factor 135 = .ok (.aload_n 0, 1) := dk_42 (dk_at dksX14_factor_4 10 rfl rfl)
theorem dX14_factor_136 : decode cX14_factor 136 = .ok (.getfield 18, 3) := dk_180 0 18 (dk_at dksX14_factor_4 11 rfl rfl)
theorem dX14_factor_139 : decode cX14_factor 139 = .ok (.aload_n 0, 1) := dk_42 (dk_at dksX14_factor_4 14 rfl rfl)
theorem dX14_factor_140 : decode cX14_factor 140 = .ok (.dup, 1) := dk_89 (dk_at dksX14_factor_4 15 rfl rfl)
theorem dX14_factor_141 : decode cX14_factor 141 = .ok (.getfield 26, 3) := dk_180 0 26 (dk_at dksX14_factor_4 16 rfl rfl)
theorem dX14_factor_144 : decode cX14_factor 144 = .ok (.dup_x1, 1) := dk_90 (dk_at dksX14_factor_4 19 rfl rfl)
theorem dX14_factor_145 : decode cX14_factor 145 = .ok (.iconst 1, 1) := dk_4 (dk_at dksX14_factor_4 20 rfl rfl)
theorem dX14_factor_146 : decode cX14_factor 146 = .ok (.iadd, 1) := dk_96 (dk_at dksX14_factor_4 21 rfl rfl)
theorem dX14_factor_147 : decode cX14_factor 147 = .ok (.putfield 26, 3) := dk_181 0 26 (dk_at dksX14_factor_5 0 rfl rfl)
theorem dX14_factor_150 : decode cX14_factor 150 = .ok (.baload, 1) := dk_51 (dk_at dksX14_factor_5 3 rfl rfl)
theorem dX14_factor_151 : decode cX14_factor 151 = .ok (.istore_n 1, 1) := dk_60 (dk_at dksX14_factor_5 4 rfl rfl)
theorem dX14_factor_152 : decode cX14_factor 152 = .ok (.aload_n 0, 1) := dk_42 (dk_at dksX14_factor_5 5 rfl rfl)
theorem dX14_factor_153 : decode cX14_factor 153 = .ok (.invokevirtual 34, 3) := dk_182 0 34 (dk_at dksX14_factor_5 6 rfl rfl)
theorem dX14_factor_156 : decode cX14_factor 156 = .ok (.istore_n 2, 1) := dk_61 (dk_at dksX14_factor_5 9 rfl rfl)
theorem dX14_factor_157 : decode cX14_factor 157 = .ok (.iload_n 2, 1) := dk_28 (dk_at dksX14_factor_5 10 rfl rfl)
theorem dX14_factor_158 : decode cX14_factor 158 = .ok (.bipush 60, 2) := dk_16 60 (dk_at dksX14_factor_5 11 rfl rfl)
theorem dX14_factor_160 : decode cX14_factor 160 = .ok (.if_icmp .eq 20, 3) := dk_159 0 20 (dk_at dksX14_factor_5 13 rfl rfl)
theorem dX14_factor_163 : decode cX14_factor 163 = .ok (.iload_n 2, 1) := dk_28 (dk_at dksX14_factor_5 16 rfl rfl)
theorem dX14_factor_164 : decode cX14_factor 164 = .ok (.bipush 61, 2) := dk_16 61 (dk_at dksX14_factor_5 17 rfl rfl)
theorem dX14_factor_166 : decode cX14_factor 166 = .ok (.if_icmp .eq 14, 3) := dk_159 0 14 (dk_at dksX14_factor_5 19 rfl rfl)
theorem dX14_factor_169 : decode cX14_factor 169 = .ok (.iload_n 2, 1) := dk_28 (dk_at dksX14_factor_5 22 rfl rfl)
theorem dX14_factor_170 : decode cX14_factor 170 = .ok (.bipush 62, 2) := dk_16 62 (dk_at dksX14_factor_6 0 rfl rfl)
theorem dX14_factor_172 : decode cX14_factor 172 = .ok (.if_icmp .eq 8, 3) := dk_159 0 8 (dk_at dksX14_factor_6 2 rfl rfl)
theorem dX14_factor_175 : decode cX14_factor 175 = .ok (.aload_n 0, 1) := dk_42 (dk_at dksX14_factor_6 5 rfl rfl)
theorem dX14_factor_176 : decode cX14_factor 176 = .ok (.invokevirtual 38, 3) := dk_182 0 38 (dk_at dksX14_factor_6 6 rfl rfl)
theorem dX14_factor_179 : decode cX14_factor 179 = .ok (.athrow, 1) := dk_191 (dk_at dksX14_factor_6 9 rfl rfl)
theorem dX14_factor_180 : decode cX14_factor 180 = .ok (.aload_n 0, 1) := dk_42 (dk_at dksX14_factor_6 10 rfl rfl)
theorem dX14_factor_181 : decode cX14_factor 181 = .ok (.dup, 1) := dk_89 (dk_at dksX14_factor_6 11 rfl rfl)
theorem dX14_factor_182 : decode cX14_factor 182 = .ok (.getfield 26, 3) := dk_180 0 26 (dk_at dksX14_factor_6 12 rfl rfl)
theorem dX14_factor_185 : decode cX14_factor 185 = .ok (.iconst 1, 1) := dk_4 (dk_at dksX14_factor_6 15 rfl rfl)
theorem dX14_factor_186 : decode cX14_factor 186 = .ok (.iadd, 1) := dk_96 (dk_at dksX14_factor_6 16 rfl rfl)
theorem dX14_factor_187 : decode cX14_factor 187 = .ok (.putfield 26, 3) := dk_181 0 26 (dk_at dksX14_factor_6 17 rfl rfl)
theorem dX14_factor_190 : decode cX14_factor 190 = .ok (.new 76, 3) := dk_187 0 76 (dk_at dksX14_factor_6 20 rfl rfl)
theorem dX14_factor_193 : decode cX14_factor 193 = .ok (.dup, 1) := dk_89 (dk_at dksX14_factor_6 23 rfl rfl)
theorem dX14_factor_194 : decode cX14_factor 194 = .ok (.iload_n 1, 1) := dk_27 (dk_at dksX14_factor_7 0 rfl rfl)
theorem dX14_factor_195 : decode cX14_factor 195 = .ok (.iload_n 2, 1) := dk_28 (dk_at dksX14_factor_7 1 rfl rfl)
theorem dX14_factor_196 : decode cX14_factor 196 = .ok (.aload_n 0, 1) := dk_42 (dk_at dksX14_factor_7 2 rfl rfl)
theorem dX14_factor_197 : decode cX14_factor 197 = .ok (.invokevirtual 78, 3) := dk_182 0 78 (dk_at dksX14_factor_7 3 rfl rfl)
theorem dX14_factor_200 : decode cX14_factor 200 = .ok (.invokespecial 81, 3) := dk_183 0 81 (dk_at dksX14_factor_7 6 rfl rfl)
theorem dX14_factor_203 : decode cX14_factor 203 = .ok (.areturn, 1) := dk_176 (dk_at dksX14_factor_7 9 rfl rfl)
theorem dX14_factor_204 : decode cX14_factor 204 = .ok (.aload_n 0, 1) := dk_42 (dk_at dksX14_factor_7 10 rfl rfl)
theorem dX14_factor_205 : decode cX14_factor 205 = .ok (.invokevirtual 38, 3) := dk_182 0 38 (dk_at dksX14_factor_7 11 rfl rfl)
theorem dX14_factor_208 : decode cX14_factor 208 = .ok (.athrow, 1) := dk_191 (dk_at dksX14_factor_7 14 rfl rfl)
abbrev cX14_deeper : ByteArray := prog_10_method_7_code
def yX14_deeper : MethodName := ⟨RX14, "deeper", "()V"⟩
def dkwX14_deeper_1 : List UInt8 := [89, 180, 0, 26, 4, 96, 181, 0, 26, 177]
abbrev dktX14_deeper_1 : List UInt8 := dkwX14_deeper_1 ++ []
def dkwX14_deeper_0 : List UInt8 := [42, 180, 0, 58, 7, 160, 0, 8, 42, 182, 0, 38, 191, 42, 89, 180, 0, 58, 4, 96, 181, 0, 58, 42]
abbrev dktX14_deeper_0 : List UInt8 := dkwX14_deeper_0 ++ dktX14_deeper_1
theorem dksX14_deeper_0 : cX14_deeper.data.toList.drop 0 = dktX14_deeper_0 := by decide +kernel
theorem dksX14_deeper_1 : cX14_deeper.data.toList.drop 24 = dktX14_deeper_1 := dk_seg dksX14_deeper_0 24 rfl rfl
theorem dX14_deeper_0 : decode cX14_deeper 0 = .ok (.aload_n 0, 1) := dk_42 (dk_at dksX14_deeper_0 0 rfl rfl)
theorem dX14_deeper_1 : decode cX14_deeper 1 = .ok (.getfield 58, 3) := dk_180 0 58 (dk_at dksX14_deeper_0 1 rfl rfl)
theorem dX14_deeper_4 : decode cX14_deeper 4 = .ok (.iconst 4, 1) := dk_7 (dk_at dksX14_deeper_0 4 rfl rfl)
theorem dX14_deeper_5 : decode cX14_deeper 5 = .ok (.if_icmp .ne 8, 3) := dk_160 0 8 (dk_at dksX14_deeper_0 5 rfl rfl)
theorem dX14_deeper_8 : decode cX14_deeper 8 = .ok (.aload_n 0, 1) := dk_42 (dk_at dksX14_deeper_0 8 rfl rfl)
theorem dX14_deeper_9 : decode cX14_deeper 9 = .ok (.invokevirtual 38, 3) := dk_182 0 38 (dk_at dksX14_deeper_0 9 rfl rfl)
theorem dX14_deeper_12 : decode cX14_deeper 12 = .ok (.athrow, 1) := dk_191 (dk_at dksX14_deeper_0 12 rfl rfl)
theorem dX14_deeper_13 : decode cX14_deeper 13 = .ok (.aload_n 0, 1) := dk_42 (dk_at dksX14_deeper_0 13 rfl rfl)
theorem dX14_deeper_14 : decode cX14_deeper 14 = .ok (.dup, 1) := dk_89 (dk_at dksX14_deeper_0 14 rfl rfl)
theorem dX14_deeper_15 : decode cX14_deeper 15 = .ok (.getfield 58, 3) := dk_180 0 58 (dk_at dksX14_deeper_0 15 rfl rfl)
theorem dX14_deeper_18 : decode cX14_deeper 18 = .ok (.iconst 1, 1) := dk_4 (dk_at dksX14_deeper_0 18 rfl rfl)
theorem dX14_deeper_19 : decode cX14_deeper 19 = .ok (.iadd, 1) := dk_96 (dk_at dksX14_deeper_0 19 rfl rfl)
theorem dX14_deeper_20 : decode cX14_deeper 20 = .ok (.putfield 58, 3) := dk_181 0 58 (dk_at dksX14_deeper_0 20 rfl rfl)
theorem dX14_deeper_23 : decode cX14_deeper 23 = .ok (.aload_n 0, 1) := dk_42 (dk_at dksX14_deeper_0 23 rfl rfl)
theorem dX14_deeper_24 : decode cX14_deeper 24 = .ok (.dup, 1) := dk_89 (dk_at dksX14_deeper_1 0 rfl rfl)
theorem dX14_deeper_25 : decode cX14_deeper 25 = .ok (.getfield 26, 3) := dk_180 0 26 (dk_at dksX14_deeper_1 1 rfl rfl)
theorem dX14_deeper_28 : decode cX14_deeper 28 = .ok (.iconst 1, 1) := dk_4 (dk_at dksX14_deeper_1 4 rfl rfl)
theorem dX14_deeper_29 : decode cX14_deeper 29 = .ok (.iadd, 1) := dk_96 (dk_at dksX14_deeper_1 5 rfl rfl)
theorem dX14_deeper_30 : decode cX14_deeper 30 = .ok (.putfield 26, 3) := dk_181 0 26 (dk_at dksX14_deeper_1 6 rfl rfl)
theorem dX14_deeper_33 : decode cX14_deeper 33 = .ok (.return_, 1) := dk_177 (dk_at dksX14_deeper_1 9 rfl rfl)
abbrev cX14_work : ByteArray := prog_10_method_12_code
def yX14_work : MethodName := ⟨RX14, "work", "()V"⟩
def dkwX14_work_1 : List UInt8 := [162, 0, 13, 42, 180, 0, 12, 180, 0, 116, 27, 28, 79, 177]
abbrev dktX14_work_1 : List UInt8 := dkwX14_work_1 ++ []
def dkwX14_work_0 : List UInt8 := [42, 18, 114, 182, 0, 102, 42, 182, 0, 78, 60, 42, 16, 32, 182, 0, 51, 42, 182, 0, 78, 61, 27, 8]
abbrev dktX14_work_0 : List UInt8 := dkwX14_work_0 ++ dktX14_work_1
theorem dksX14_work_0 : cX14_work.data.toList.drop 0 = dktX14_work_0 := by decide +kernel
theorem dksX14_work_1 : cX14_work.data.toList.drop 24 = dktX14_work_1 := dk_seg dksX14_work_0 24 rfl rfl
theorem dX14_work_0 : decode cX14_work 0 = .ok (.aload_n 0, 1) := dk_42 (dk_at dksX14_work_0 0 rfl rfl)
theorem dX14_work_1 : decode cX14_work 1 = .ok (.ldc 114, 2) := dk_18 114 (dk_at dksX14_work_0 1 rfl rfl)
theorem dX14_work_3 : decode cX14_work 3 = .ok (.invokevirtual 102, 3) := dk_182 0 102 (dk_at dksX14_work_0 3 rfl rfl)
theorem dX14_work_6 : decode cX14_work 6 = .ok (.aload_n 0, 1) := dk_42 (dk_at dksX14_work_0 6 rfl rfl)
theorem dX14_work_7 : decode cX14_work 7 = .ok (.invokevirtual 78, 3) := dk_182 0 78 (dk_at dksX14_work_0 7 rfl rfl)
theorem dX14_work_10 : decode cX14_work 10 = .ok (.istore_n 1, 1) := dk_60 (dk_at dksX14_work_0 10 rfl rfl)
theorem dX14_work_11 : decode cX14_work 11 = .ok (.aload_n 0, 1) := dk_42 (dk_at dksX14_work_0 11 rfl rfl)
theorem dX14_work_12 : decode cX14_work 12 = .ok (.bipush 32, 2) := dk_16 32 (dk_at dksX14_work_0 12 rfl rfl)
theorem dX14_work_14 : decode cX14_work 14 = .ok (.invokevirtual 51, 3) := dk_182 0 51 (dk_at dksX14_work_0 14 rfl rfl)
theorem dX14_work_17 : decode cX14_work 17 = .ok (.aload_n 0, 1) := dk_42 (dk_at dksX14_work_0 17 rfl rfl)
theorem dX14_work_18 : decode cX14_work 18 = .ok (.invokevirtual 78, 3) := dk_182 0 78 (dk_at dksX14_work_0 18 rfl rfl)
theorem dX14_work_21 : decode cX14_work 21 = .ok (.istore_n 2, 1) := dk_61 (dk_at dksX14_work_0 21 rfl rfl)
theorem dX14_work_22 : decode cX14_work 22 = .ok (.iload_n 1, 1) := dk_27 (dk_at dksX14_work_0 22 rfl rfl)
theorem dX14_work_23 : decode cX14_work 23 = .ok (.iconst 5, 1) := dk_8 (dk_at dksX14_work_0 23 rfl rfl)
theorem dX14_work_24 : decode cX14_work 24 = .ok (.if_icmp .ge 13, 3) := dk_162 0 13 (dk_at dksX14_work_1 0 rfl rfl)
theorem dX14_work_27 : decode cX14_work 27 = .ok (.aload_n 0, 1) := dk_42 (dk_at dksX14_work_1 3 rfl rfl)
theorem dX14_work_28 : decode cX14_work 28 = .ok (.getfield 12, 3) := dk_180 0 12 (dk_at dksX14_work_1 4 rfl rfl)
theorem dX14_work_31 : decode cX14_work 31 = .ok (.getfield 116, 3) := dk_180 0 116 (dk_at dksX14_work_1 7 rfl rfl)
theorem dX14_work_34 : decode cX14_work 34 = .ok (.iload_n 1, 1) := dk_27 (dk_at dksX14_work_1 10 rfl rfl)
theorem dX14_work_35 : decode cX14_work 35 = .ok (.iload_n 2, 1) := dk_28 (dk_at dksX14_work_1 11 rfl rfl)
theorem dX14_work_36 : decode cX14_work 36 = .ok (.iastore, 1) := dk_79 (dk_at dksX14_work_1 12 rfl rfl)
theorem dX14_work_37 : decode cX14_work 37 = .ok (.return_, 1) := dk_177 (dk_at dksX14_work_1 13 rfl rfl)
theorem q116 : (Jvm.Cond.initialized "HatsDecide$Reader") ∈ lw_all := lw_g (lw_at lw_m1 21 rfl) rfl
theorem q206 : (Jvm.Cond.fieldLinkNest "HatsDecide$Reader" (106 : Nat) "HatsDecide$Town" "clauses" "Ljava/util/ArrayList;" "HatsDecide") ∈ lw_tbl := lw_at lw_m1 111 rfl
theorem q208 : (Jvm.Cond.fieldLinkNest "HatsDecide$Reader" (116 : Nat) "HatsDecide$Town" "works" "[I" "HatsDecide") ∈ lw_tbl := lw_at lw_m1 113 rfl
theorem q210 : (Jvm.Cond.fieldLinkNest "HatsDecide$Reader" (136 : Nat) "HatsDecide$Town" "many" "I" "HatsDecide") ∈ lw_tbl := lw_at lw_m1 115 rfl
theorem q212 : (Jvm.Cond.fieldLinkNest "HatsDecide$Reader" (130 : Nat) "HatsDecide$Town" "moth" "I" "HatsDecide") ∈ lw_tbl := lw_at lw_m1 117 rfl
theorem q720 : (Jvm.Cond.instantiable "HatsDecide$Reader" (5 : Nat)) ∈ lw_all := lw_g (lw_at lw_m3 145 rfl) rfl
theorem q722 : (Jvm.Cond.instanceMethod ({ cls := "HatsDecide$Reader", name := "<init>", desc := "([BI)V" } : Jvm.MethodName)) ∈ lw_all := lw_g (lw_at lw_m3 147 rfl) rfl
theorem q723 : (Jvm.Cond.code ({ cls := "HatsDecide$Reader", name := "<init>", desc := "([BI)V" } : Jvm.MethodName) prog_10_method_1_code (3 : Nat) (Option.none : Option Jvm.ClassFile.FieldType)) ∈ lw_all := lw_g (lw_at lw_m3 148 rfl) rfl
theorem q724 : (Jvm.Cond.methodLink "HatsDecide$Reader" (3 : Nat) ({ cls := "java/lang/Object", name := "<init>", desc := "()V" } : Jvm.MethodName)) ∈ lw_all := lw_g (lw_at lw_m3 149 rfl) rfl
theorem q725 : (Jvm.Cond.classLink "HatsDecide$Reader" (9 : Nat) "HatsDecide$Town") ∈ lw_all := lw_g (lw_at lw_m3 150 rfl) rfl
theorem q726 : (Jvm.Cond.methodLinkNest "HatsDecide$Reader" (11 : Nat) ({ cls := "HatsDecide$Town", name := "<init>", desc := "()V" } : Jvm.MethodName) "HatsDecide") ∈ lw_tbl := lw_at lw_m3 151 rfl
theorem q727 : (Jvm.Cond.fieldLink "HatsDecide$Reader" (18 : Nat) "HatsDecide$Reader" "text" "[B") ∈ lw_all := lw_g (lw_at lw_m3 152 rfl) rfl
theorem q728 : (Jvm.Cond.fieldLink "HatsDecide$Reader" (22 : Nat) "HatsDecide$Reader" "size" "I") ∈ lw_all := lw_g (lw_at lw_m3 153 rfl) rfl
theorem q729 : (Jvm.Cond.fieldLink "HatsDecide$Reader" (26 : Nat) "HatsDecide$Reader" "at" "I") ∈ lw_all := lw_g (lw_at lw_m3 154 rfl) rfl
theorem q730 : (Jvm.Cond.fieldLink "HatsDecide$Reader" (58 : Nat) "HatsDecide$Reader" "deep" "I") ∈ lw_all := lw_g (lw_at lw_m3 155 rfl) rfl
theorem q731 : (Jvm.Cond.fieldLink "HatsDecide$Reader" (12 : Nat) "HatsDecide$Reader" "town" "LHatsDecide$Town;") ∈ lw_all := lw_g (lw_at lw_m3 156 rfl) rfl
theorem q732 : (Jvm.Cond.laysFinal "HatsDecide$Reader" "HatsDecide$Reader" "text" "[B") ∈ lw_all := lw_g (lw_at lw_m3 157 rfl) rfl
theorem q733 : (Jvm.Cond.soleField "HatsDecide$Reader" "text") ∈ lw_all := lw_g (lw_at lw_m3 158 rfl) rfl
theorem q734 : (Jvm.Cond.laysFinal "HatsDecide$Reader" "HatsDecide$Reader" "size" "I") ∈ lw_all := lw_g (lw_at lw_m3 159 rfl) rfl
theorem q735 : (Jvm.Cond.soleField "HatsDecide$Reader" "size") ∈ lw_all := lw_g (lw_at lw_m3 160 rfl) rfl
theorem q736 : (Jvm.Cond.lays "HatsDecide$Reader" "HatsDecide$Reader" "at" "I") ∈ lw_all := lw_g (lw_at lw_m3 161 rfl) rfl
theorem q737 : (Jvm.Cond.soleField "HatsDecide$Reader" "at") ∈ lw_all := lw_g (lw_at lw_m3 162 rfl) rfl
theorem q738 : (Jvm.Cond.lays "HatsDecide$Reader" "HatsDecide$Reader" "deep" "I") ∈ lw_all := lw_g (lw_at lw_m3 163 rfl) rfl
theorem q739 : (Jvm.Cond.soleField "HatsDecide$Reader" "deep") ∈ lw_all := lw_g (lw_at lw_m3 164 rfl) rfl
theorem q740 : (Jvm.Cond.laysFinal "HatsDecide$Reader" "HatsDecide$Reader" "town" "LHatsDecide$Town;") ∈ lw_all := lw_g (lw_at lw_m3 165 rfl) rfl
theorem q741 : (Jvm.Cond.soleField "HatsDecide$Reader" "town") ∈ lw_all := lw_g (lw_at lw_m3 166 rfl) rfl
theorem q742 : (Jvm.Cond.superclass "HatsDecide$Reader" "java/lang/Object") ∈ lw_all := lw_g (lw_at lw_m3 167 rfl) rfl
theorem q744 : (Jvm.Cond.instanceMethod ({ cls := "HatsDecide$Reader", name := "town", desc := "()LHatsDecide$Town;" } : Jvm.MethodName)) ∈ lw_all := lw_g (lw_at lw_m3 169 rfl) rfl
theorem q745 : (Jvm.Cond.selects "HatsDecide$Reader" ({ cls := "HatsDecide$Reader", name := "town", desc := "()LHatsDecide$Town;" } : Jvm.MethodName) ({ cls := "HatsDecide$Reader", name := "town", desc := "()LHatsDecide$Town;" } : Jvm.MethodName)) ∈ lw_all := lw_g (lw_at lw_m3 170 rfl) rfl
theorem q746 : (Jvm.Cond.code ({ cls := "HatsDecide$Reader", name := "town", desc := "()LHatsDecide$Town;" } : Jvm.MethodName) prog_10_method_14_code (1 : Nat) (Option.some (Jvm.ClassFile.FieldType.object "HatsDecide$Town"))) ∈ lw_all := lw_g (lw_at lw_m3 171 rfl) rfl
theorem q747 : (Jvm.Cond.methodLink "HatsDecide$Reader" (139 : Nat) ({ cls := "HatsDecide$Reader", name := "clause", desc := "()V" } : Jvm.MethodName)) ∈ lw_all := lw_g (lw_at lw_m3 172 rfl) rfl
theorem q748 : (Jvm.Cond.privateMethod ({ cls := "HatsDecide$Reader", name := "clause", desc := "()V" } : Jvm.MethodName)) ∈ lw_tbl := lw_at lw_m3 173 rfl
theorem q749 : (Jvm.Cond.instanceMethod ({ cls := "HatsDecide$Reader", name := "clause", desc := "()V" } : Jvm.MethodName)) ∈ lw_all := lw_g (lw_at lw_m3 174 rfl) rfl
theorem q750 : (Jvm.Cond.code ({ cls := "HatsDecide$Reader", name := "clause", desc := "()V" } : Jvm.MethodName) prog_10_method_13_code (1 : Nat) (Option.none : Option Jvm.ClassFile.FieldType)) ∈ lw_all := lw_g (lw_at lw_m3 175 rfl) rfl
theorem q751 : (Jvm.Cond.methodLink "HatsDecide$Reader" (34 : Nat) ({ cls := "HatsDecide$Reader", name := "here", desc := "()I" } : Jvm.MethodName)) ∈ lw_all := lw_g (lw_at lw_m3 176 rfl) rfl
theorem q752 : (Jvm.Cond.privateMethod ({ cls := "HatsDecide$Reader", name := "here", desc := "()I" } : Jvm.MethodName)) ∈ lw_tbl := lw_at lw_m3 177 rfl
theorem q753 : (Jvm.Cond.instanceMethod ({ cls := "HatsDecide$Reader", name := "here", desc := "()I" } : Jvm.MethodName)) ∈ lw_all := lw_g (lw_at lw_m3 178 rfl) rfl
theorem q754 : (Jvm.Cond.code ({ cls := "HatsDecide$Reader", name := "here", desc := "()I" } : Jvm.MethodName) prog_10_method_2_code (1 : Nat) (Option.some Jvm.ClassFile.FieldType.int)) ∈ lw_all := lw_g (lw_at lw_m3 179 rfl) rfl
theorem q755 : (Jvm.Cond.stringRef "HatsDecide$Reader" (120 : Nat) "suit ") ∈ lw_tbl := lw_at lw_m3 180 rfl
theorem q756 : (Jvm.Cond.methodLink "HatsDecide$Reader" (122 : Nat) ({ cls := "HatsDecide$Reader", name := "tested", desc := "(Ljava/lang/String;I)V" } : Jvm.MethodName)) ∈ lw_all := lw_g (lw_at lw_m3 181 rfl) rfl
theorem q757 : (Jvm.Cond.privateMethod ({ cls := "HatsDecide$Reader", name := "tested", desc := "(Ljava/lang/String;I)V" } : Jvm.MethodName)) ∈ lw_tbl := lw_at lw_m3 182 rfl
theorem q758 : (Jvm.Cond.instanceMethod ({ cls := "HatsDecide$Reader", name := "tested", desc := "(Ljava/lang/String;I)V" } : Jvm.MethodName)) ∈ lw_all := lw_g (lw_at lw_m3 183 rfl) rfl
theorem q759 : (Jvm.Cond.code ({ cls := "HatsDecide$Reader", name := "tested", desc := "(Ljava/lang/String;I)V" } : Jvm.MethodName) prog_10_method_11_code (4 : Nat) (Option.none : Option Jvm.ClassFile.FieldType)) ∈ lw_all := lw_g (lw_at lw_m3 184 rfl) rfl
theorem q760 : (Jvm.Cond.methodLink "HatsDecide$Reader" (102 : Nat) ({ cls := "HatsDecide$Reader", name := "word", desc := "(Ljava/lang/String;)V" } : Jvm.MethodName)) ∈ lw_all := lw_g (lw_at lw_m3 185 rfl) rfl
theorem q761 : (Jvm.Cond.privateMethod ({ cls := "HatsDecide$Reader", name := "word", desc := "(Ljava/lang/String;)V" } : Jvm.MethodName)) ∈ lw_tbl := lw_at lw_m3 186 rfl
theorem q762 : (Jvm.Cond.instanceMethod ({ cls := "HatsDecide$Reader", name := "word", desc := "(Ljava/lang/String;)V" } : Jvm.MethodName)) ∈ lw_all := lw_g (lw_at lw_m3 187 rfl) rfl
theorem q763 : (Jvm.Cond.code ({ cls := "HatsDecide$Reader", name := "word", desc := "(Ljava/lang/String;)V" } : Jvm.MethodName) prog_10_method_5_code (3 : Nat) (Option.none : Option Jvm.ClassFile.FieldType)) ∈ lw_all := lw_g (lw_at lw_m3 188 rfl) rfl
theorem q764 : (Jvm.Cond.methodLink "HatsDecide$Reader" (42 : Nat) ({ cls := "java/lang/String", name := "length", desc := "()I" } : Jvm.MethodName)) ∈ lw_all := lw_g (lw_at lw_m3 189 rfl) rfl
theorem q774 : (Jvm.Cond.methodLink "HatsDecide$Reader" (47 : Nat) ({ cls := "java/lang/String", name := "charAt", desc := "(I)C" } : Jvm.MethodName)) ∈ lw_all := lw_g (lw_at lw_m3 199 rfl) rfl
theorem q810 : (Jvm.Cond.methodLink "HatsDecide$Reader" (51 : Nat) ({ cls := "HatsDecide$Reader", name := "must", desc := "(I)V" } : Jvm.MethodName)) ∈ lw_all := lw_g (lw_at lw_m3 235 rfl) rfl
theorem q811 : (Jvm.Cond.privateMethod ({ cls := "HatsDecide$Reader", name := "must", desc := "(I)V" } : Jvm.MethodName)) ∈ lw_tbl := lw_at lw_m3 236 rfl
theorem q812 : (Jvm.Cond.instanceMethod ({ cls := "HatsDecide$Reader", name := "must", desc := "(I)V" } : Jvm.MethodName)) ∈ lw_all := lw_g (lw_at lw_m3 237 rfl) rfl
theorem q813 : (Jvm.Cond.code ({ cls := "HatsDecide$Reader", name := "must", desc := "(I)V" } : Jvm.MethodName) prog_10_method_4_code (2 : Nat) (Option.none : Option Jvm.ClassFile.FieldType)) ∈ lw_all := lw_g (lw_at lw_m3 238 rfl) rfl
theorem q814 : (Jvm.Cond.methodLink "HatsDecide$Reader" (38 : Nat) ({ cls := "HatsDecide$Reader", name := "off", desc := "()LHatsDecide$Off;" } : Jvm.MethodName)) ∈ lw_all := lw_g (lw_at lw_m3 239 rfl) rfl
theorem q815 : (Jvm.Cond.privateMethod ({ cls := "HatsDecide$Reader", name := "off", desc := "()LHatsDecide$Off;" } : Jvm.MethodName)) ∈ lw_tbl := lw_at lw_m4 0 rfl
theorem q816 : (Jvm.Cond.instanceMethod ({ cls := "HatsDecide$Reader", name := "off", desc := "()LHatsDecide$Off;" } : Jvm.MethodName)) ∈ lw_all := lw_g (lw_at lw_m4 1 rfl) rfl
theorem q817 : (Jvm.Cond.code ({ cls := "HatsDecide$Reader", name := "off", desc := "()LHatsDecide$Off;" } : Jvm.MethodName) prog_10_method_3_code (1 : Nat) (Option.some (Jvm.ClassFile.FieldType.object "HatsDecide$Off"))) ∈ lw_all := lw_g (lw_at lw_m4 2 rfl) rfl
theorem q818 : (Jvm.Cond.classLink "HatsDecide$Reader" (29 : Nat) "HatsDecide$Off") ∈ lw_all := lw_g (lw_at lw_m4 3 rfl) rfl
theorem q875 : (Jvm.Cond.methodLink "HatsDecide$Reader" (31 : Nat) ({ cls := "HatsDecide$Off", name := "<init>", desc := "(I)V" } : Jvm.MethodName)) ∈ lw_all := lw_g (lw_at lw_m4 60 rfl) rfl
theorem q902 : (Jvm.Cond.methodLink "HatsDecide$Reader" (78 : Nat) ({ cls := "HatsDecide$Reader", name := "number", desc := "()I" } : Jvm.MethodName)) ∈ lw_all := lw_g (lw_at lw_m4 87 rfl) rfl
theorem q903 : (Jvm.Cond.privateMethod ({ cls := "HatsDecide$Reader", name := "number", desc := "()I" } : Jvm.MethodName)) ∈ lw_tbl := lw_at lw_m4 88 rfl
theorem q904 : (Jvm.Cond.instanceMethod ({ cls := "HatsDecide$Reader", name := "number", desc := "()I" } : Jvm.MethodName)) ∈ lw_all := lw_g (lw_at lw_m4 89 rfl) rfl
theorem q905 : (Jvm.Cond.code ({ cls := "HatsDecide$Reader", name := "number", desc := "()I" } : Jvm.MethodName) prog_10_method_6_code (3 : Nat) (Option.some Jvm.ClassFile.FieldType.int)) ∈ lw_all := lw_g (lw_at lw_m4 90 rfl) rfl
theorem q906 : (Jvm.Cond.methodLinkNest "HatsDecide$Reader" (54 : Nat) ({ cls := "HatsDecide", name := "in", desc := "(III)Z" } : Jvm.MethodName) "HatsDecide") ∈ lw_tbl := lw_at lw_m4 91 rfl
theorem q907 : (Jvm.Cond.classLink "HatsDecide$Reader" (109 : Nat) "HatsDecide$Clause") ∈ lw_all := lw_g (lw_at lw_m4 92 rfl) rfl
theorem q909 : (Jvm.Cond.methodLink "HatsDecide$Reader" (73 : Nat) ({ cls := "HatsDecide$Reader", name := "some", desc := "()LHatsDecide$Test;" } : Jvm.MethodName)) ∈ lw_all := lw_g (lw_at lw_m4 94 rfl) rfl
theorem q910 : (Jvm.Cond.privateMethod ({ cls := "HatsDecide$Reader", name := "some", desc := "()LHatsDecide$Test;" } : Jvm.MethodName)) ∈ lw_tbl := lw_at lw_m4 95 rfl
theorem q911 : (Jvm.Cond.instanceMethod ({ cls := "HatsDecide$Reader", name := "some", desc := "()LHatsDecide$Test;" } : Jvm.MethodName)) ∈ lw_all := lw_g (lw_at lw_m4 96 rfl) rfl
theorem q912 : (Jvm.Cond.code ({ cls := "HatsDecide$Reader", name := "some", desc := "()LHatsDecide$Test;" } : Jvm.MethodName) prog_10_method_10_code (2 : Nat) (Option.some (Jvm.ClassFile.FieldType.object "HatsDecide$Test"))) ∈ lw_all := lw_g (lw_at lw_m4 97 rfl) rfl
theorem q913 : (Jvm.Cond.classLink "HatsDecide$Reader" (84 : Nat) "HatsDecide$Some") ∈ lw_all := lw_g (lw_at lw_m4 98 rfl) rfl
theorem q915 : (Jvm.Cond.methodLink "HatsDecide$Reader" (86 : Nat) ({ cls := "HatsDecide$Some", name := "<init>", desc := "(Z)V" } : Jvm.MethodName)) ∈ lw_all := lw_g (lw_at lw_m4 100 rfl) rfl
theorem q926 : (Jvm.Cond.fieldLinkNest "HatsDecide$Reader" (89 : Nat) "HatsDecide$Some" "of" "Ljava/util/ArrayList;" "HatsDecide") ∈ lw_tbl := lw_at lw_m4 111 rfl
theorem q932 : (Jvm.Cond.methodLink "HatsDecide$Reader" (99 : Nat) ({ cls := "HatsDecide$Reader", name := "all", desc := "()LHatsDecide$Test;" } : Jvm.MethodName)) ∈ lw_all := lw_g (lw_at lw_m4 117 rfl) rfl
theorem q933 : (Jvm.Cond.privateMethod ({ cls := "HatsDecide$Reader", name := "all", desc := "()LHatsDecide$Test;" } : Jvm.MethodName)) ∈ lw_tbl := lw_at lw_m4 118 rfl
theorem q934 : (Jvm.Cond.instanceMethod ({ cls := "HatsDecide$Reader", name := "all", desc := "()LHatsDecide$Test;" } : Jvm.MethodName)) ∈ lw_all := lw_g (lw_at lw_m4 119 rfl) rfl
theorem q935 : (Jvm.Cond.code ({ cls := "HatsDecide$Reader", name := "all", desc := "()LHatsDecide$Test;" } : Jvm.MethodName) prog_10_method_9_code (2 : Nat) (Option.some (Jvm.ClassFile.FieldType.object "HatsDecide$Test"))) ∈ lw_all := lw_g (lw_at lw_m4 120 rfl) rfl
theorem q936 : (Jvm.Cond.methodLink "HatsDecide$Reader" (66 : Nat) ({ cls := "HatsDecide$Reader", name := "factor", desc := "()LHatsDecide$Test;" } : Jvm.MethodName)) ∈ lw_all := lw_g (lw_at lw_m4 121 rfl) rfl
theorem q937 : (Jvm.Cond.privateMethod ({ cls := "HatsDecide$Reader", name := "factor", desc := "()LHatsDecide$Test;" } : Jvm.MethodName)) ∈ lw_tbl := lw_at lw_m4 122 rfl
theorem q938 : (Jvm.Cond.instanceMethod ({ cls := "HatsDecide$Reader", name := "factor", desc := "()LHatsDecide$Test;" } : Jvm.MethodName)) ∈ lw_all := lw_g (lw_at lw_m4 123 rfl) rfl
theorem q939 : (Jvm.Cond.code ({ cls := "HatsDecide$Reader", name := "factor", desc := "()LHatsDecide$Test;" } : Jvm.MethodName) prog_10_method_8_code (3 : Nat) (Option.some (Jvm.ClassFile.FieldType.object "HatsDecide$Test"))) ∈ lw_all := lw_g (lw_at lw_m4 124 rfl) rfl
theorem q940 : (Jvm.Cond.methodLink "HatsDecide$Reader" (61 : Nat) ({ cls := "HatsDecide$Reader", name := "deeper", desc := "()V" } : Jvm.MethodName)) ∈ lw_all := lw_g (lw_at lw_m4 125 rfl) rfl
theorem q941 : (Jvm.Cond.privateMethod ({ cls := "HatsDecide$Reader", name := "deeper", desc := "()V" } : Jvm.MethodName)) ∈ lw_tbl := lw_at lw_m4 126 rfl
theorem q942 : (Jvm.Cond.instanceMethod ({ cls := "HatsDecide$Reader", name := "deeper", desc := "()V" } : Jvm.MethodName)) ∈ lw_all := lw_g (lw_at lw_m4 127 rfl) rfl
theorem q943 : (Jvm.Cond.code ({ cls := "HatsDecide$Reader", name := "deeper", desc := "()V" } : Jvm.MethodName) prog_10_method_7_code (1 : Nat) (Option.none : Option Jvm.ClassFile.FieldType)) ∈ lw_all := lw_g (lw_at lw_m4 128 rfl) rfl
theorem q944 : (Jvm.Cond.classLink "HatsDecide$Reader" (64 : Nat) "HatsDecide$Not") ∈ lw_all := lw_g (lw_at lw_m4 129 rfl) rfl
theorem q946 : (Jvm.Cond.methodLink "HatsDecide$Reader" (70 : Nat) ({ cls := "HatsDecide$Not", name := "<init>", desc := "(LHatsDecide$Test;)V" } : Jvm.MethodName)) ∈ lw_all := lw_g (lw_at lw_m4 131 rfl) rfl
theorem q954 : (Jvm.Cond.classLink "HatsDecide$Reader" (76 : Nat) "HatsDecide$Against") ∈ lw_all := lw_g (lw_at lw_m4 139 rfl) rfl
theorem q956 : (Jvm.Cond.methodLink "HatsDecide$Reader" (81 : Nat) ({ cls := "HatsDecide$Against", name := "<init>", desc := "(III)V" } : Jvm.MethodName)) ∈ lw_all := lw_g (lw_at lw_m4 141 rfl) rfl
theorem q970 : (Jvm.Cond.methodLink "HatsDecide$Reader" (93 : Nat) ({ cls := "java/util/ArrayList", name := "add", desc := "(Ljava/lang/Object;)Z" } : Jvm.MethodName)) ∈ lw_all := lw_g (lw_at lw_m4 155 rfl) rfl
theorem q1009 : (Jvm.Cond.selects "HatsDecide$Reader" ({ cls := "java/lang/Object", name := "getClass", desc := "()Ljava/lang/Class;" } : Jvm.MethodName) ({ cls := "java/lang/Object", name := "getClass", desc := "()Ljava/lang/Class;" } : Jvm.MethodName)) ∈ lw_all := lw_g (lw_at lw_m4 194 rfl) rfl
theorem q1041 : (Jvm.Cond.methodLink "HatsDecide$Reader" (111 : Nat) ({ cls := "HatsDecide$Clause", name := "<init>", desc := "(ILHatsDecide$Test;)V" } : Jvm.MethodName)) ∈ lw_all := lw_g (lw_at lw_m4 226 rfl) rfl
theorem q1054 : (Jvm.Cond.stringRef "HatsDecide$Reader" (126 : Nat) "gall ") ∈ lw_tbl := lw_at lw_m4 239 rfl
theorem q1055 : (Jvm.Cond.stringRef "HatsDecide$Reader" (128 : Nat) "moth ") ∈ lw_tbl := lw_at lw_m5 0 rfl
theorem q1056 : (Jvm.Cond.methodLink "HatsDecide$Reader" (133 : Nat) ({ cls := "HatsDecide$Reader", name := "work", desc := "()V" } : Jvm.MethodName)) ∈ lw_all := lw_g (lw_at lw_m5 1 rfl) rfl
theorem q1057 : (Jvm.Cond.privateMethod ({ cls := "HatsDecide$Reader", name := "work", desc := "()V" } : Jvm.MethodName)) ∈ lw_tbl := lw_at lw_m5 2 rfl
theorem q1058 : (Jvm.Cond.instanceMethod ({ cls := "HatsDecide$Reader", name := "work", desc := "()V" } : Jvm.MethodName)) ∈ lw_all := lw_g (lw_at lw_m5 3 rfl) rfl
theorem q1059 : (Jvm.Cond.code ({ cls := "HatsDecide$Reader", name := "work", desc := "()V" } : Jvm.MethodName) prog_10_method_12_code (3 : Nat) (Option.none : Option Jvm.ClassFile.FieldType)) ∈ lw_all := lw_g (lw_at lw_m5 4 rfl) rfl
theorem q1060 : (Jvm.Cond.stringRef "HatsDecide$Reader" (114 : Nat) "work ") ∈ lw_tbl := lw_at lw_m5 5 rfl
theorem q2189 : (Jvm.Cond.castable "HatsDecide$Reader" "java/lang/Object") ∈ lw_tbl := lw_at lw_m9 174 rfl
theorem in_X14 : ∀ w ∈ wsX140, w ∈ lw_all := lw_in wsX140 [732, 734, 736, 738, 740] (by decide +kernel) (by decide +kernel)

/-! HatsDecide$Off -/
set_option maxRecDepth 100000
def RX15 : String := "HatsDecide$Off"
def TX15 : u_T := fun k => match k with
  | 0 => ("java/lang/Throwable", "cause", "Ljava/lang/Throwable;", false)
  | 1 => ("java/lang/Throwable", "stackTrace", "[Ljava/lang/StackTraceElement;", false)
  | 2 => ("java/lang/Throwable", "suppressedExceptions", "Ljava/util/List;", false)
  | 3 => ("java/lang/Throwable", "detailMessage", "Ljava/lang/String;", false)
  | 4 => ("java/lang/Throwable", "backtrace", "Ljava/lang/Object;", false)
  | 5 => ("java/lang/Throwable", "depth", "I", false)
  | _ => ("HatsDecide$Off", "place", "I", true)
def tyX15 : Nat → FieldType := fun k => match k with
  | 0 => .object "java/lang/Throwable"
  | 1 => .array (.object "java/lang/StackTraceElement")
  | 2 => .object "java/util/List"
  | 3 => .object "java/lang/String"
  | 4 => .object "java/lang/Object"
  | 5 => .int
  | _ => .int
abbrev wsX150 : List Cond := u_ws RX15 TX15 7
theorem nmX15 : ∀ a, a < 7 → ∀ b, b < 7 → a ≠ b → (TX15 a).2.1 ≠ (TX15 b).2.1 := by decide +kernel
theorem tyX15_ok : ∀ k, k < 7 → parseFieldDescriptor (TX15 k).2.2.1 = some (tyX15 k) := by decide +kernel
abbrev cX15_init : ByteArray := prog_9_method_1_code
def yX15_init : MethodName := ⟨RX15, "<init>", "(I)V"⟩
def dkwX15_init_0 : List UInt8 := [42, 183, 0, 1, 42, 27, 181, 0, 7, 177]
abbrev dktX15_init_0 : List UInt8 := dkwX15_init_0 ++ []
theorem dksX15_init_0 : cX15_init.data.toList.drop 0 = dktX15_init_0 := by decide +kernel
theorem dX15_init_0 : decode cX15_init 0 = .ok (.aload_n 0, 1) := dk_42 (dk_at dksX15_init_0 0 rfl rfl)
theorem dX15_init_1 : decode cX15_init 1 = .ok (.invokespecial 1, 3) := dk_183 0 1 (dk_at dksX15_init_0 1 rfl rfl)
theorem dX15_init_4 : decode cX15_init 4 = .ok (.aload_n 0, 1) := dk_42 (dk_at dksX15_init_0 4 rfl rfl)
theorem dX15_init_5 : decode cX15_init 5 = .ok (.iload_n 1, 1) := dk_27 (dk_at dksX15_init_0 5 rfl rfl)
theorem dX15_init_6 : decode cX15_init 6 = .ok (.putfield 7, 3) := dk_181 0 7 (dk_at dksX15_init_0 6 rfl rfl)
theorem dX15_init_9 : decode cX15_init 9 = .ok (.return_, 1) := dk_177 (dk_at dksX15_init_0 9 rfl rfl)
theorem q123 : (Jvm.Cond.initialized "HatsDecide$Off") ∈ lw_all := lw_g (lw_at lw_m1 28 rfl) rfl
theorem q819 : (Jvm.Cond.instantiable "HatsDecide$Off" (7 : Nat)) ∈ lw_all := lw_g (lw_at lw_m4 4 rfl) rfl
theorem q820 : (Jvm.Cond.castable "HatsDecide$Off" "HatsDecide$Off") ∈ lw_tbl := lw_at lw_m4 5 rfl
theorem q827 : (Jvm.Cond.selects "HatsDecide$Off" ({ cls := "java/lang/Throwable", name := "fillInStackTrace", desc := "(I)Ljava/lang/Throwable;" } : Jvm.MethodName) ({ cls := "java/lang/Throwable", name := "fillInStackTrace", desc := "(I)Ljava/lang/Throwable;" } : Jvm.MethodName)) ∈ lw_all := lw_g (lw_at lw_m4 12 rfl) rfl
theorem q828 : (Jvm.Cond.selects "HatsDecide$Off" ({ cls := "java/lang/Throwable", name := "fillInStackTrace", desc := "()Ljava/lang/Throwable;" } : Jvm.MethodName) ({ cls := "java/lang/Throwable", name := "fillInStackTrace", desc := "()Ljava/lang/Throwable;" } : Jvm.MethodName)) ∈ lw_all := lw_g (lw_at lw_m4 13 rfl) rfl
theorem q829 : (Jvm.Cond.lays "HatsDecide$Off" "java/lang/Throwable" "cause" "Ljava/lang/Throwable;") ∈ lw_all := lw_g (lw_at lw_m4 14 rfl) rfl
theorem q831 : (Jvm.Cond.lays "HatsDecide$Off" "java/lang/Throwable" "stackTrace" "[Ljava/lang/StackTraceElement;") ∈ lw_all := lw_g (lw_at lw_m4 16 rfl) rfl
theorem q833 : (Jvm.Cond.lays "HatsDecide$Off" "java/lang/Throwable" "suppressedExceptions" "Ljava/util/List;") ∈ lw_all := lw_g (lw_at lw_m4 18 rfl) rfl
theorem q835 : (Jvm.Cond.lays "HatsDecide$Off" "java/lang/Throwable" "detailMessage" "Ljava/lang/String;") ∈ lw_all := lw_g (lw_at lw_m4 20 rfl) rfl
theorem q837 : (Jvm.Cond.lays "HatsDecide$Off" "java/lang/Throwable" "backtrace" "Ljava/lang/Object;") ∈ lw_all := lw_g (lw_at lw_m4 22 rfl) rfl
theorem q876 : (Jvm.Cond.instanceMethod ({ cls := "HatsDecide$Off", name := "<init>", desc := "(I)V" } : Jvm.MethodName)) ∈ lw_all := lw_g (lw_at lw_m4 61 rfl) rfl
theorem q877 : (Jvm.Cond.code ({ cls := "HatsDecide$Off", name := "<init>", desc := "(I)V" } : Jvm.MethodName) prog_9_method_1_code (2 : Nat) (Option.none : Option Jvm.ClassFile.FieldType)) ∈ lw_all := lw_g (lw_at lw_m4 62 rfl) rfl
theorem q878 : (Jvm.Cond.methodLink "HatsDecide$Off" (1 : Nat) ({ cls := "java/lang/RuntimeException", name := "<init>", desc := "()V" } : Jvm.MethodName)) ∈ lw_all := lw_g (lw_at lw_m4 63 rfl) rfl
theorem q885 : (Jvm.Cond.fieldLink "HatsDecide$Off" (7 : Nat) "HatsDecide$Off" "place" "I") ∈ lw_all := lw_g (lw_at lw_m4 70 rfl) rfl
theorem q892 : (Jvm.Cond.laysFinal "HatsDecide$Off" "HatsDecide$Off" "place" "I") ∈ lw_all := lw_g (lw_at lw_m4 77 rfl) rfl
theorem q893 : (Jvm.Cond.soleField "HatsDecide$Off" "place") ∈ lw_all := lw_g (lw_at lw_m4 78 rfl) rfl
theorem q898 : (Jvm.Cond.lays "HatsDecide$Off" "java/lang/Throwable" "depth" "I") ∈ lw_all := lw_g (lw_at lw_m4 83 rfl) rfl
theorem q901 : (Jvm.Cond.superclass "HatsDecide$Off" "java/lang/RuntimeException") ∈ lw_all := lw_g (lw_at lw_m4 86 rfl) rfl
theorem q1008 : (Jvm.Cond.selects "HatsDecide$Off" ({ cls := "java/lang/Object", name := "getClass", desc := "()Ljava/lang/Class;" } : Jvm.MethodName) ({ cls := "java/lang/Object", name := "getClass", desc := "()Ljava/lang/Class;" } : Jvm.MethodName)) ∈ lw_all := lw_g (lw_at lw_m4 193 rfl) rfl
theorem q2190 : (Jvm.Cond.castable "HatsDecide$Off" "java/lang/Object") ∈ lw_tbl := lw_at lw_m9 175 rfl
theorem in_X15 : ∀ w ∈ wsX150, w ∈ lw_all := lw_in wsX150 [829, 831, 833, 835, 837, 898, 892] (by decide +kernel) (by decide +kernel)

/-! HatsDecide$Clause -/
set_option maxRecDepth 100000
def RX16 : String := "HatsDecide$Clause"
def TX16 : u_T := fun k => match k with
  | 0 => ("HatsDecide$Clause", "n", "I", true)
  | _ => ("HatsDecide$Clause", "test", "LHatsDecide$Test;", true)
def tyX16 : Nat → FieldType := fun k => match k with
  | 0 => .int
  | _ => .object "HatsDecide$Test"
abbrev wsX160 : List Cond := u_ws RX16 TX16 2
theorem nmX16 : ∀ a, a < 2 → ∀ b, b < 2 → a ≠ b → (TX16 a).2.1 ≠ (TX16 b).2.1 := by decide +kernel
theorem tyX16_ok : ∀ k, k < 2 → parseFieldDescriptor (TX16 k).2.2.1 = some (tyX16 k) := by decide +kernel
abbrev cX16_init : ByteArray := prog_3_method_1_code
def yX16_init : MethodName := ⟨RX16, "<init>", "(ILHatsDecide$Test;)V"⟩
def dkwX16_init_0 : List UInt8 := [42, 183, 0, 1, 42, 27, 181, 0, 7, 42, 44, 181, 0, 13, 177]
abbrev dktX16_init_0 : List UInt8 := dkwX16_init_0 ++ []
theorem dksX16_init_0 : cX16_init.data.toList.drop 0 = dktX16_init_0 := by decide +kernel
theorem dX16_init_0 : decode cX16_init 0 = .ok (.aload_n 0, 1) := dk_42 (dk_at dksX16_init_0 0 rfl rfl)
theorem dX16_init_1 : decode cX16_init 1 = .ok (.invokespecial 1, 3) := dk_183 0 1 (dk_at dksX16_init_0 1 rfl rfl)
theorem dX16_init_4 : decode cX16_init 4 = .ok (.aload_n 0, 1) := dk_42 (dk_at dksX16_init_0 4 rfl rfl)
theorem dX16_init_5 : decode cX16_init 5 = .ok (.iload_n 1, 1) := dk_27 (dk_at dksX16_init_0 5 rfl rfl)
theorem dX16_init_6 : decode cX16_init 6 = .ok (.putfield 7, 3) := dk_181 0 7 (dk_at dksX16_init_0 6 rfl rfl)
theorem dX16_init_9 : decode cX16_init 9 = .ok (.aload_n 0, 1) := dk_42 (dk_at dksX16_init_0 9 rfl rfl)
theorem dX16_init_10 : decode cX16_init 10 = .ok (.aload_n 2, 1) := dk_44 (dk_at dksX16_init_0 10 rfl rfl)
theorem dX16_init_11 : decode cX16_init 11 = .ok (.putfield 13, 3) := dk_181 0 13 (dk_at dksX16_init_0 11 rfl rfl)
theorem dX16_init_14 : decode cX16_init 14 = .ok (.return_, 1) := dk_177 (dk_at dksX16_init_0 14 rfl rfl)
theorem q124 : (Jvm.Cond.initialized "HatsDecide$Clause") ∈ lw_all := lw_g (lw_at lw_m1 29 rfl) rfl
theorem q908 : (Jvm.Cond.instantiable "HatsDecide$Clause" (2 : Nat)) ∈ lw_all := lw_g (lw_at lw_m4 93 rfl) rfl
theorem q1002 : (Jvm.Cond.selects "HatsDecide$Clause" ({ cls := "java/lang/Object", name := "getClass", desc := "()Ljava/lang/Class;" } : Jvm.MethodName) ({ cls := "java/lang/Object", name := "getClass", desc := "()Ljava/lang/Class;" } : Jvm.MethodName)) ∈ lw_all := lw_g (lw_at lw_m4 187 rfl) rfl
theorem q1042 : (Jvm.Cond.instanceMethod ({ cls := "HatsDecide$Clause", name := "<init>", desc := "(ILHatsDecide$Test;)V" } : Jvm.MethodName)) ∈ lw_all := lw_g (lw_at lw_m4 227 rfl) rfl
theorem q1043 : (Jvm.Cond.code ({ cls := "HatsDecide$Clause", name := "<init>", desc := "(ILHatsDecide$Test;)V" } : Jvm.MethodName) prog_3_method_1_code (3 : Nat) (Option.none : Option Jvm.ClassFile.FieldType)) ∈ lw_all := lw_g (lw_at lw_m4 228 rfl) rfl
theorem q1044 : (Jvm.Cond.methodLink "HatsDecide$Clause" (1 : Nat) ({ cls := "java/lang/Object", name := "<init>", desc := "()V" } : Jvm.MethodName)) ∈ lw_all := lw_g (lw_at lw_m4 229 rfl) rfl
theorem q1045 : (Jvm.Cond.fieldLink "HatsDecide$Clause" (7 : Nat) "HatsDecide$Clause" "n" "I") ∈ lw_all := lw_g (lw_at lw_m4 230 rfl) rfl
theorem q1047 : (Jvm.Cond.fieldLink "HatsDecide$Clause" (13 : Nat) "HatsDecide$Clause" "test" "LHatsDecide$Test;") ∈ lw_all := lw_g (lw_at lw_m4 232 rfl) rfl
theorem q1049 : (Jvm.Cond.laysFinal "HatsDecide$Clause" "HatsDecide$Clause" "n" "I") ∈ lw_all := lw_g (lw_at lw_m4 234 rfl) rfl
theorem q1050 : (Jvm.Cond.soleField "HatsDecide$Clause" "n") ∈ lw_all := lw_g (lw_at lw_m4 235 rfl) rfl
theorem q1051 : (Jvm.Cond.laysFinal "HatsDecide$Clause" "HatsDecide$Clause" "test" "LHatsDecide$Test;") ∈ lw_all := lw_g (lw_at lw_m4 236 rfl) rfl
theorem q1052 : (Jvm.Cond.soleField "HatsDecide$Clause" "test") ∈ lw_all := lw_g (lw_at lw_m4 237 rfl) rfl
theorem q1053 : (Jvm.Cond.superclass "HatsDecide$Clause" "java/lang/Object") ∈ lw_all := lw_g (lw_at lw_m4 238 rfl) rfl
theorem q2191 : (Jvm.Cond.castable "HatsDecide$Clause" "java/lang/Object") ∈ lw_tbl := lw_at lw_m9 176 rfl
theorem in_X16 : ∀ w ∈ wsX160, w ∈ lw_all := lw_in wsX160 [1049, 1051] (by decide +kernel) (by decide +kernel)

/-! HatsDecide$Test -/
set_option maxRecDepth 100000
def RX17 : String := "HatsDecide$Test"
abbrev cX17_init : ByteArray := prog_15_method_1_code
def yX17_init : MethodName := ⟨RX17, "<init>", "()V"⟩
theorem dX17_init_0 : decode cX17_init 0 = .ok (.aload_n 0, 1) := by decide +kernel
theorem dX17_init_1 : decode cX17_init 1 = .ok (.invokespecial 1, 3) := by decide +kernel
theorem dX17_init_4 : decode cX17_init 4 = .ok (.return_, 1) := by decide +kernel
theorem q125 : (Jvm.Cond.initialized "HatsDecide$Test") ∈ lw_all := lw_g (lw_at lw_m1 30 rfl) rfl
theorem q632 : (Jvm.Cond.declares ({ cls := "HatsDecide$Test", name := "holds", desc := "(LHatsDecide$Look;)Z" } : Jvm.MethodName)) ∈ lw_tbl := lw_at lw_m3 57 rfl
theorem q633 : (Jvm.Cond.sameMethod "HatsDecide$Test" "HatsDecide$Test" "holds" "(LHatsDecide$Look;)Z") ∈ lw_all := lw_g (lw_at lw_m3 58 rfl) rfl
theorem q919 : (Jvm.Cond.instanceMethod ({ cls := "HatsDecide$Test", name := "<init>", desc := "()V" } : Jvm.MethodName)) ∈ lw_all := lw_g (lw_at lw_m4 104 rfl) rfl
theorem q920 : (Jvm.Cond.code ({ cls := "HatsDecide$Test", name := "<init>", desc := "()V" } : Jvm.MethodName) prog_15_method_1_code (1 : Nat) (Option.none : Option Jvm.ClassFile.FieldType)) ∈ lw_all := lw_g (lw_at lw_m4 105 rfl) rfl
theorem q921 : (Jvm.Cond.methodLink "HatsDecide$Test" (1 : Nat) ({ cls := "java/lang/Object", name := "<init>", desc := "()V" } : Jvm.MethodName)) ∈ lw_all := lw_g (lw_at lw_m4 106 rfl) rfl

/-! HatsDecide$Some -/
set_option maxRecDepth 100000
def RX18 : String := "HatsDecide$Some"
def TX18 : u_T := fun k => match k with
  | 0 => ("HatsDecide$Some", "isAll", "Z", true)
  | _ => ("HatsDecide$Some", "of", "Ljava/util/ArrayList;", true)
def tyX18 : Nat → FieldType := fun k => match k with
  | 0 => .boolean
  | _ => .object "java/util/ArrayList"
abbrev wsX180 : List Cond := u_ws RX18 TX18 2
theorem nmX18 : ∀ a, a < 2 → ∀ b, b < 2 → a ≠ b → (TX18 a).2.1 ≠ (TX18 b).2.1 := by decide +kernel
theorem tyX18_ok : ∀ k, k < 2 → parseFieldDescriptor (TX18 k).2.2.1 = some (tyX18 k) := by decide +kernel
abbrev cX18_holds : ByteArray := prog_11_method_2_code
def yX18_holds : MethodName := ⟨RX18, "holds", "(LHatsDecide$Look;)Z"⟩
def dkwX18_holds_2 : List UInt8 := [132, 2, 1, 167, 255, 207, 42, 180, 0, 16, 172]
abbrev dktX18_holds_2 : List UInt8 := dkwX18_holds_2 ++ []
def dkwX18_holds_1 : List UInt8 := [43, 182, 0, 28, 42, 180, 0, 16, 159, 0, 16, 42, 180, 0, 16, 154, 0, 7, 4, 167, 0, 4, 3, 172]
abbrev dktX18_holds_1 : List UInt8 := dkwX18_holds_1 ++ dktX18_holds_2
def dkwX18_holds_0 : List UInt8 := [3, 61, 28, 42, 180, 0, 10, 182, 0, 20, 162, 0, 44, 42, 180, 0, 10, 28, 182, 0, 24, 192, 0, 2]
abbrev dktX18_holds_0 : List UInt8 := dkwX18_holds_0 ++ dktX18_holds_1
theorem dksX18_holds_0 : cX18_holds.data.toList.drop 0 = dktX18_holds_0 := by decide +kernel
theorem dksX18_holds_1 : cX18_holds.data.toList.drop 24 = dktX18_holds_1 := dk_seg dksX18_holds_0 24 rfl rfl
theorem dksX18_holds_2 : cX18_holds.data.toList.drop 48 = dktX18_holds_2 := dk_seg dksX18_holds_1 24 rfl rfl
theorem dX18_holds_0 : decode cX18_holds 0 = .ok (.iconst 0, 1) := dk_3 (dk_at dksX18_holds_0 0 rfl rfl)
theorem dX18_holds_1 : decode cX18_holds 1 = .ok (.istore_n 2, 1) := dk_61 (dk_at dksX18_holds_0 1 rfl rfl)
theorem dX18_holds_2 : decode cX18_holds 2 = .ok (.iload_n 2, 1) := dk_28 (dk_at dksX18_holds_0 2 rfl rfl)
theorem dX18_holds_3 : decode cX18_holds 3 = .ok (.aload_n 0, 1) := dk_42 (dk_at dksX18_holds_0 3 rfl rfl)
theorem dX18_holds_4 : decode cX18_holds 4 = .ok (.getfield 10, 3) := dk_180 0 10 (dk_at dksX18_holds_0 4 rfl rfl)
theorem dX18_holds_7 : decode cX18_holds 7 = .ok (.invokevirtual 20, 3) := dk_182 0 20 (dk_at dksX18_holds_0 7 rfl rfl)
theorem dX18_holds_10 : decode cX18_holds 10 = .ok (.if_icmp .ge 44, 3) := dk_162 0 44 (dk_at dksX18_holds_0 10 rfl rfl)
theorem dX18_holds_13 : decode cX18_holds 13 = .ok (.aload_n 0, 1) := dk_42 (dk_at dksX18_holds_0 13 rfl rfl)
theorem dX18_holds_14 : decode cX18_holds 14 = .ok (.getfield 10, 3) := dk_180 0 10 (dk_at dksX18_holds_0 14 rfl rfl)
theorem dX18_holds_17 : decode cX18_holds 17 = .ok (.iload_n 2, 1) := dk_28 (dk_at dksX18_holds_0 17 rfl rfl)
theorem dX18_holds_18 : decode cX18_holds 18 = .ok (.invokevirtual 24, 3) := dk_182 0 24 (dk_at dksX18_holds_0 18 rfl rfl)
theorem dX18_holds_21 : decode cX18_holds 21 = .ok (.checkcast 2, 3) := dk_192 0 2 (dk_at dksX18_holds_0 21 rfl rfl)
theorem dX18_holds_24 : decode cX18_holds 24 = .ok (.aload_n 1, 1) := dk_43 (dk_at dksX18_holds_1 0 rfl rfl)
theorem dX18_holds_25 : decode cX18_holds 25 = .ok (.invokevirtual 28, 3) := dk_182 0 28 (dk_at dksX18_holds_1 1 rfl rfl)
theorem dX18_holds_28 : decode cX18_holds 28 = .ok (.aload_n 0, 1) := dk_42 (dk_at dksX18_holds_1 4 rfl rfl)
theorem dX18_holds_29 : decode cX18_holds 29 = .ok (.getfield 16, 3) := dk_180 0 16 (dk_at dksX18_holds_1 5 rfl rfl)
theorem dX18_holds_32 : decode cX18_holds 32 = .ok (.if_icmp .eq 16, 3) := dk_159 0 16 (dk_at dksX18_holds_1 8 rfl rfl)
theorem dX18_holds_35 : decode cX18_holds 35 = .ok (.aload_n 0, 1) := dk_42 (dk_at dksX18_holds_1 11 rfl rfl)
theorem dX18_holds_36 : decode cX18_holds 36 = .ok (.getfield 16, 3) := dk_180 0 16 (dk_at dksX18_holds_1 12 rfl rfl)
theorem dX18_holds_39 : decode cX18_holds 39 = .ok (.ifCond .ne 7, 3) := dk_154 0 7 (dk_at dksX18_holds_1 15 rfl rfl)
theorem dX18_holds_42 : decode cX18_holds 42 = .ok (.iconst 1, 1) := dk_4 (dk_at dksX18_holds_1 18 rfl rfl)
theorem dX18_holds_43 : decode cX18_holds 43 = .ok (.goto 4, 3) := dk_167 0 4 (dk_at dksX18_holds_1 19 rfl rfl)
theorem dX18_holds_46 : decode cX18_holds 46 = .ok (.iconst 0, 1) := dk_3 (dk_at dksX18_holds_1 22 rfl rfl)
theorem dX18_holds_47 : decode cX18_holds 47 = .ok (.ireturn, 1) := dk_172 (dk_at dksX18_holds_1 23 rfl rfl)
theorem dX18_holds_48 : decode cX18_holds 48 = .ok (.iinc 2 1, 3) := dk_132 2 1 (dk_at dksX18_holds_2 0 rfl rfl)
theorem dX18_holds_51 : decode cX18_holds 51 = .ok (.goto (-49), 3) := dk_167 255 207 (dk_at dksX18_holds_2 3 rfl rfl)
theorem dX18_holds_54 : decode cX18_holds 54 = .ok (.aload_n 0, 1) := dk_42 (dk_at dksX18_holds_2 6 rfl rfl)
theorem dX18_holds_55 : decode cX18_holds 55 = .ok (.getfield 16, 3) := dk_180 0 16 (dk_at dksX18_holds_2 7 rfl rfl)
theorem dX18_holds_58 : decode cX18_holds 58 = .ok (.ireturn, 1) := dk_172 (dk_at dksX18_holds_2 10 rfl rfl)
abbrev cX18_init : ByteArray := prog_11_method_1_code
def yX18_init : MethodName := ⟨RX18, "<init>", "(Z)V"⟩
def dkwX18_init_0 : List UInt8 := [42, 183, 0, 1, 42, 187, 0, 7, 89, 183, 0, 9, 181, 0, 10, 42, 27, 181, 0, 16, 177]
abbrev dktX18_init_0 : List UInt8 := dkwX18_init_0 ++ []
theorem dksX18_init_0 : cX18_init.data.toList.drop 0 = dktX18_init_0 := by decide +kernel
theorem dX18_init_0 : decode cX18_init 0 = .ok (.aload_n 0, 1) := dk_42 (dk_at dksX18_init_0 0 rfl rfl)
theorem dX18_init_1 : decode cX18_init 1 = .ok (.invokespecial 1, 3) := dk_183 0 1 (dk_at dksX18_init_0 1 rfl rfl)
theorem dX18_init_4 : decode cX18_init 4 = .ok (.aload_n 0, 1) := dk_42 (dk_at dksX18_init_0 4 rfl rfl)
theorem dX18_init_5 : decode cX18_init 5 = .ok (.new 7, 3) := dk_187 0 7 (dk_at dksX18_init_0 5 rfl rfl)
theorem dX18_init_8 : decode cX18_init 8 = .ok (.dup, 1) := dk_89 (dk_at dksX18_init_0 8 rfl rfl)
theorem dX18_init_9 : decode cX18_init 9 = .ok (.invokespecial 9, 3) := dk_183 0 9 (dk_at dksX18_init_0 9 rfl rfl)
theorem dX18_init_12 : decode cX18_init 12 = .ok (.putfield 10, 3) := dk_181 0 10 (dk_at dksX18_init_0 12 rfl rfl)
theorem dX18_init_15 : decode cX18_init 15 = .ok (.aload_n 0, 1) := dk_42 (dk_at dksX18_init_0 15 rfl rfl)
theorem dX18_init_16 : decode cX18_init 16 = .ok (.iload_n 1, 1) := dk_27 (dk_at dksX18_init_0 16 rfl rfl)
theorem dX18_init_17 : decode cX18_init 17 = .ok (.putfield 16, 3) := dk_181 0 16 (dk_at dksX18_init_0 17 rfl rfl)
theorem dX18_init_20 : decode cX18_init 20 = .ok (.return_, 1) := dk_177 (dk_at dksX18_init_0 20 rfl rfl)
theorem q126 : (Jvm.Cond.initialized "HatsDecide$Some") ∈ lw_all := lw_g (lw_at lw_m1 31 rfl) rfl
theorem q645 : (Jvm.Cond.instanceMethod ({ cls := "HatsDecide$Some", name := "holds", desc := "(LHatsDecide$Look;)Z" } : Jvm.MethodName)) ∈ lw_all := lw_g (lw_at lw_m3 70 rfl) rfl
theorem q646 : (Jvm.Cond.code ({ cls := "HatsDecide$Some", name := "holds", desc := "(LHatsDecide$Look;)Z" } : Jvm.MethodName) prog_11_method_2_code (3 : Nat) (Option.some Jvm.ClassFile.FieldType.boolean)) ∈ lw_all := lw_g (lw_at lw_m3 71 rfl) rfl
theorem q647 : (Jvm.Cond.methodLink "HatsDecide$Some" (20 : Nat) ({ cls := "java/util/ArrayList", name := "size", desc := "()I" } : Jvm.MethodName)) ∈ lw_all := lw_g (lw_at lw_m3 72 rfl) rfl
theorem q648 : (Jvm.Cond.methodLink "HatsDecide$Some" (24 : Nat) ({ cls := "java/util/ArrayList", name := "get", desc := "(I)Ljava/lang/Object;" } : Jvm.MethodName)) ∈ lw_all := lw_g (lw_at lw_m3 73 rfl) rfl
theorem q649 : (Jvm.Cond.classLink "HatsDecide$Some" (2 : Nat) "HatsDecide$Test") ∈ lw_all := lw_g (lw_at lw_m3 74 rfl) rfl
theorem q650 : (Jvm.Cond.methodLink "HatsDecide$Some" (28 : Nat) ({ cls := "HatsDecide$Test", name := "holds", desc := "(LHatsDecide$Look;)Z" } : Jvm.MethodName)) ∈ lw_all := lw_g (lw_at lw_m3 75 rfl) rfl
theorem q651 : (Jvm.Cond.selects "HatsDecide$Some" ({ cls := "HatsDecide$Test", name := "holds", desc := "(LHatsDecide$Look;)Z" } : Jvm.MethodName) ({ cls := "HatsDecide$Some", name := "holds", desc := "(LHatsDecide$Look;)Z" } : Jvm.MethodName)) ∈ lw_all := lw_g (lw_at lw_m3 76 rfl) rfl
theorem q914 : (Jvm.Cond.instantiable "HatsDecide$Some" (2 : Nat)) ∈ lw_all := lw_g (lw_at lw_m4 99 rfl) rfl
theorem q916 : (Jvm.Cond.instanceMethod ({ cls := "HatsDecide$Some", name := "<init>", desc := "(Z)V" } : Jvm.MethodName)) ∈ lw_all := lw_g (lw_at lw_m4 101 rfl) rfl
theorem q917 : (Jvm.Cond.code ({ cls := "HatsDecide$Some", name := "<init>", desc := "(Z)V" } : Jvm.MethodName) prog_11_method_1_code (2 : Nat) (Option.none : Option Jvm.ClassFile.FieldType)) ∈ lw_all := lw_g (lw_at lw_m4 102 rfl) rfl
theorem q918 : (Jvm.Cond.methodLinkNest "HatsDecide$Some" (1 : Nat) ({ cls := "HatsDecide$Test", name := "<init>", desc := "()V" } : Jvm.MethodName) "HatsDecide") ∈ lw_tbl := lw_at lw_m4 103 rfl
theorem q922 : (Jvm.Cond.classLink "HatsDecide$Some" (7 : Nat) "java/util/ArrayList") ∈ lw_all := lw_g (lw_at lw_m4 107 rfl) rfl
theorem q923 : (Jvm.Cond.methodLink "HatsDecide$Some" (9 : Nat) ({ cls := "java/util/ArrayList", name := "<init>", desc := "()V" } : Jvm.MethodName)) ∈ lw_all := lw_g (lw_at lw_m4 108 rfl) rfl
theorem q924 : (Jvm.Cond.fieldLink "HatsDecide$Some" (16 : Nat) "HatsDecide$Some" "isAll" "Z") ∈ lw_all := lw_g (lw_at lw_m4 109 rfl) rfl
theorem q925 : (Jvm.Cond.fieldLink "HatsDecide$Some" (10 : Nat) "HatsDecide$Some" "of" "Ljava/util/ArrayList;") ∈ lw_all := lw_g (lw_at lw_m4 110 rfl) rfl
theorem q927 : (Jvm.Cond.laysFinal "HatsDecide$Some" "HatsDecide$Some" "isAll" "Z") ∈ lw_all := lw_g (lw_at lw_m4 112 rfl) rfl
theorem q928 : (Jvm.Cond.soleField "HatsDecide$Some" "isAll") ∈ lw_all := lw_g (lw_at lw_m4 113 rfl) rfl
theorem q929 : (Jvm.Cond.laysFinal "HatsDecide$Some" "HatsDecide$Some" "of" "Ljava/util/ArrayList;") ∈ lw_all := lw_g (lw_at lw_m4 114 rfl) rfl
theorem q930 : (Jvm.Cond.soleField "HatsDecide$Some" "of") ∈ lw_all := lw_g (lw_at lw_m4 115 rfl) rfl
theorem q931 : (Jvm.Cond.superclass "HatsDecide$Some" "HatsDecide$Test") ∈ lw_all := lw_g (lw_at lw_m4 116 rfl) rfl
theorem q1010 : (Jvm.Cond.selects "HatsDecide$Some" ({ cls := "java/lang/Object", name := "getClass", desc := "()Ljava/lang/Class;" } : Jvm.MethodName) ({ cls := "java/lang/Object", name := "getClass", desc := "()Ljava/lang/Class;" } : Jvm.MethodName)) ∈ lw_all := lw_g (lw_at lw_m4 195 rfl) rfl
theorem q2164 : (Jvm.Cond.castable "HatsDecide$Some" "HatsDecide$Test") ∈ lw_tbl := lw_at lw_m9 149 rfl
theorem q2192 : (Jvm.Cond.castable "HatsDecide$Some" "java/lang/Object") ∈ lw_tbl := lw_at lw_m9 177 rfl
theorem in_X18 : ∀ w ∈ wsX180, w ∈ lw_all := lw_in wsX180 [927, 929] (by decide +kernel) (by decide +kernel)

/-! HatsDecide$Not -/
set_option maxRecDepth 100000
def RX19 : String := "HatsDecide$Not"
def TX19 : u_T := fun k => match k with
  | _ => ("HatsDecide$Not", "of", "LHatsDecide$Test;", true)
def tyX19 : Nat → FieldType := fun k => match k with
  | _ => .object "HatsDecide$Test"
abbrev wsX190 : List Cond := u_ws RX19 TX19 1
theorem nmX19 : ∀ a, a < 1 → ∀ b, b < 1 → a ≠ b → (TX19 a).2.1 ≠ (TX19 b).2.1 := by decide +kernel
theorem tyX19_ok : ∀ k, k < 1 → parseFieldDescriptor (TX19 k).2.2.1 = some (tyX19 k) := by decide +kernel
abbrev cX19_holds : ByteArray := prog_8_method_2_code
def yX19_holds : MethodName := ⟨RX19, "holds", "(LHatsDecide$Look;)Z"⟩
def dkwX19_holds_0 : List UInt8 := [42, 180, 0, 7, 43, 182, 0, 13, 154, 0, 7, 4, 167, 0, 4, 3, 172]
abbrev dktX19_holds_0 : List UInt8 := dkwX19_holds_0 ++ []
theorem dksX19_holds_0 : cX19_holds.data.toList.drop 0 = dktX19_holds_0 := by decide +kernel
theorem dX19_holds_0 : decode cX19_holds 0 = .ok (.aload_n 0, 1) := dk_42 (dk_at dksX19_holds_0 0 rfl rfl)
theorem dX19_holds_1 : decode cX19_holds 1 = .ok (.getfield 7, 3) := dk_180 0 7 (dk_at dksX19_holds_0 1 rfl rfl)
theorem dX19_holds_4 : decode cX19_holds 4 = .ok (.aload_n 1, 1) := dk_43 (dk_at dksX19_holds_0 4 rfl rfl)
theorem dX19_holds_5 : decode cX19_holds 5 = .ok (.invokevirtual 13, 3) := dk_182 0 13 (dk_at dksX19_holds_0 5 rfl rfl)
theorem dX19_holds_8 : decode cX19_holds 8 = .ok (.ifCond .ne 7, 3) := dk_154 0 7 (dk_at dksX19_holds_0 8 rfl rfl)
theorem dX19_holds_11 : decode cX19_holds 11 = .ok (.iconst 1, 1) := dk_4 (dk_at dksX19_holds_0 11 rfl rfl)
theorem dX19_holds_12 : decode cX19_holds 12 = .ok (.goto 4, 3) := dk_167 0 4 (dk_at dksX19_holds_0 12 rfl rfl)
theorem dX19_holds_15 : decode cX19_holds 15 = .ok (.iconst 0, 1) := dk_3 (dk_at dksX19_holds_0 15 rfl rfl)
theorem dX19_holds_16 : decode cX19_holds 16 = .ok (.ireturn, 1) := dk_172 (dk_at dksX19_holds_0 16 rfl rfl)
abbrev cX19_init : ByteArray := prog_8_method_1_code
def yX19_init : MethodName := ⟨RX19, "<init>", "(LHatsDecide$Test;)V"⟩
def dkwX19_init_0 : List UInt8 := [42, 183, 0, 1, 42, 43, 181, 0, 7, 177]
abbrev dktX19_init_0 : List UInt8 := dkwX19_init_0 ++ []
theorem dksX19_init_0 : cX19_init.data.toList.drop 0 = dktX19_init_0 := by decide +kernel
theorem dX19_init_0 : decode cX19_init 0 = .ok (.aload_n 0, 1) := dk_42 (dk_at dksX19_init_0 0 rfl rfl)
theorem dX19_init_1 : decode cX19_init 1 = .ok (.invokespecial 1, 3) := dk_183 0 1 (dk_at dksX19_init_0 1 rfl rfl)
theorem dX19_init_4 : decode cX19_init 4 = .ok (.aload_n 0, 1) := dk_42 (dk_at dksX19_init_0 4 rfl rfl)
theorem dX19_init_5 : decode cX19_init 5 = .ok (.aload_n 1, 1) := dk_43 (dk_at dksX19_init_0 5 rfl rfl)
theorem dX19_init_6 : decode cX19_init 6 = .ok (.putfield 7, 3) := dk_181 0 7 (dk_at dksX19_init_0 6 rfl rfl)
theorem dX19_init_9 : decode cX19_init 9 = .ok (.return_, 1) := dk_177 (dk_at dksX19_init_0 9 rfl rfl)
theorem q127 : (Jvm.Cond.initialized "HatsDecide$Not") ∈ lw_all := lw_g (lw_at lw_m1 32 rfl) rfl
theorem q641 : (Jvm.Cond.selects "HatsDecide$Not" ({ cls := "HatsDecide$Test", name := "holds", desc := "(LHatsDecide$Look;)Z" } : Jvm.MethodName) ({ cls := "HatsDecide$Not", name := "holds", desc := "(LHatsDecide$Look;)Z" } : Jvm.MethodName)) ∈ lw_all := lw_g (lw_at lw_m3 66 rfl) rfl
theorem q642 : (Jvm.Cond.instanceMethod ({ cls := "HatsDecide$Not", name := "holds", desc := "(LHatsDecide$Look;)Z" } : Jvm.MethodName)) ∈ lw_all := lw_g (lw_at lw_m3 67 rfl) rfl
theorem q643 : (Jvm.Cond.code ({ cls := "HatsDecide$Not", name := "holds", desc := "(LHatsDecide$Look;)Z" } : Jvm.MethodName) prog_8_method_2_code (2 : Nat) (Option.some Jvm.ClassFile.FieldType.boolean)) ∈ lw_all := lw_g (lw_at lw_m3 68 rfl) rfl
theorem q644 : (Jvm.Cond.methodLink "HatsDecide$Not" (13 : Nat) ({ cls := "HatsDecide$Test", name := "holds", desc := "(LHatsDecide$Look;)Z" } : Jvm.MethodName)) ∈ lw_all := lw_g (lw_at lw_m3 69 rfl) rfl
theorem q945 : (Jvm.Cond.instantiable "HatsDecide$Not" (1 : Nat)) ∈ lw_all := lw_g (lw_at lw_m4 130 rfl) rfl
theorem q947 : (Jvm.Cond.instanceMethod ({ cls := "HatsDecide$Not", name := "<init>", desc := "(LHatsDecide$Test;)V" } : Jvm.MethodName)) ∈ lw_all := lw_g (lw_at lw_m4 132 rfl) rfl
theorem q948 : (Jvm.Cond.code ({ cls := "HatsDecide$Not", name := "<init>", desc := "(LHatsDecide$Test;)V" } : Jvm.MethodName) prog_8_method_1_code (2 : Nat) (Option.none : Option Jvm.ClassFile.FieldType)) ∈ lw_all := lw_g (lw_at lw_m4 133 rfl) rfl
theorem q949 : (Jvm.Cond.methodLinkNest "HatsDecide$Not" (1 : Nat) ({ cls := "HatsDecide$Test", name := "<init>", desc := "()V" } : Jvm.MethodName) "HatsDecide") ∈ lw_tbl := lw_at lw_m4 134 rfl
theorem q950 : (Jvm.Cond.fieldLink "HatsDecide$Not" (7 : Nat) "HatsDecide$Not" "of" "LHatsDecide$Test;") ∈ lw_all := lw_g (lw_at lw_m4 135 rfl) rfl
theorem q951 : (Jvm.Cond.laysFinal "HatsDecide$Not" "HatsDecide$Not" "of" "LHatsDecide$Test;") ∈ lw_all := lw_g (lw_at lw_m4 136 rfl) rfl
theorem q952 : (Jvm.Cond.soleField "HatsDecide$Not" "of") ∈ lw_all := lw_g (lw_at lw_m4 137 rfl) rfl
theorem q953 : (Jvm.Cond.superclass "HatsDecide$Not" "HatsDecide$Test") ∈ lw_all := lw_g (lw_at lw_m4 138 rfl) rfl
theorem q1007 : (Jvm.Cond.selects "HatsDecide$Not" ({ cls := "java/lang/Object", name := "getClass", desc := "()Ljava/lang/Class;" } : Jvm.MethodName) ({ cls := "java/lang/Object", name := "getClass", desc := "()Ljava/lang/Class;" } : Jvm.MethodName)) ∈ lw_all := lw_g (lw_at lw_m4 192 rfl) rfl
theorem q2163 : (Jvm.Cond.castable "HatsDecide$Not" "HatsDecide$Test") ∈ lw_tbl := lw_at lw_m9 148 rfl
theorem q2193 : (Jvm.Cond.castable "HatsDecide$Not" "java/lang/Object") ∈ lw_tbl := lw_at lw_m9 178 rfl
theorem in_X19 : ∀ w ∈ wsX190, w ∈ lw_all := lw_in wsX190 [951] (by decide +kernel) (by decide +kernel)

/-! HatsDecide$Town -/
set_option maxRecDepth 100000
def RX2 : String := "HatsDecide$Town"
def TX2 : u_T := fun k => match k with
  | 0 => ("HatsDecide$Town", "clauses", "Ljava/util/ArrayList;", true)
  | 1 => ("HatsDecide$Town", "works", "[I", true)
  | 2 => ("HatsDecide$Town", "many", "I", false)
  | _ => ("HatsDecide$Town", "moth", "I", false)
def tyX2 : Nat → FieldType := fun k => match k with
  | 0 => .object "java/util/ArrayList"
  | 1 => .array .int
  | 2 => .int
  | _ => .int
abbrev wsX20 : List Cond := u_ws RX2 TX2 4
theorem nmX2 : ∀ a, a < 4 → ∀ b, b < 4 → a ≠ b → (TX2 a).2.1 ≠ (TX2 b).2.1 := by decide +kernel
theorem tyX2_ok : ∀ k, k < 4 → parseFieldDescriptor (TX2 k).2.2.1 = some (tyX2 k) := by decide +kernel
abbrev cX2_init : ByteArray := prog_19_method_1_code
def yX2_init : MethodName := ⟨RX2, "<init>", "()V"⟩
def dkwX2_init_1 : List UInt8 := [89, 4, 16, 10, 79, 89, 5, 16, 10, 79, 89, 6, 16, 10, 79, 89, 7, 16, 10, 79, 181, 0, 18, 177]
abbrev dktX2_init_1 : List UInt8 := dkwX2_init_1 ++ []
def dkwX2_init_0 : List UInt8 := [42, 183, 0, 3, 42, 187, 0, 9, 89, 183, 0, 11, 181, 0, 12, 42, 8, 188, 10, 89, 3, 16, 10, 79]
abbrev dktX2_init_0 : List UInt8 := dkwX2_init_0 ++ dktX2_init_1
theorem dksX2_init_0 : cX2_init.data.toList.drop 0 = dktX2_init_0 := by decide +kernel
theorem dksX2_init_1 : cX2_init.data.toList.drop 24 = dktX2_init_1 := dk_seg dksX2_init_0 24 rfl rfl
theorem dX2_init_0 : decode cX2_init 0 = .ok (.aload_n 0, 1) := dk_42 (dk_at dksX2_init_0 0 rfl rfl)
theorem dX2_init_1 : decode cX2_init 1 = .ok (.invokespecial 3, 3) := dk_183 0 3 (dk_at dksX2_init_0 1 rfl rfl)
theorem dX2_init_4 : decode cX2_init 4 = .ok (.aload_n 0, 1) := dk_42 (dk_at dksX2_init_0 4 rfl rfl)
theorem dX2_init_5 : decode cX2_init 5 = .ok (.new 9, 3) := dk_187 0 9 (dk_at dksX2_init_0 5 rfl rfl)
theorem dX2_init_8 : decode cX2_init 8 = .ok (.dup, 1) := dk_89 (dk_at dksX2_init_0 8 rfl rfl)
theorem dX2_init_9 : decode cX2_init 9 = .ok (.invokespecial 11, 3) := dk_183 0 11 (dk_at dksX2_init_0 9 rfl rfl)
theorem dX2_init_12 : decode cX2_init 12 = .ok (.putfield 12, 3) := dk_181 0 12 (dk_at dksX2_init_0 12 rfl rfl)
theorem dX2_init_15 : decode cX2_init 15 = .ok (.aload_n 0, 1) := dk_42 (dk_at dksX2_init_0 15 rfl rfl)
theorem dX2_init_16 : decode cX2_init 16 = .ok (.iconst 5, 1) := dk_8 (dk_at dksX2_init_0 16 rfl rfl)
theorem dX2_init_17 : decode cX2_init 17 = .ok (.newarray .int, 2) := dk_188_10 (dk_at dksX2_init_0 17 rfl rfl)
theorem dX2_init_19 : decode cX2_init 19 = .ok (.dup, 1) := dk_89 (dk_at dksX2_init_0 19 rfl rfl)
theorem dX2_init_20 : decode cX2_init 20 = .ok (.iconst 0, 1) := dk_3 (dk_at dksX2_init_0 20 rfl rfl)
theorem dX2_init_21 : decode cX2_init 21 = .ok (.bipush 10, 2) := dk_16 10 (dk_at dksX2_init_0 21 rfl rfl)
theorem dX2_init_23 : decode cX2_init 23 = .ok (.iastore, 1) := dk_79 (dk_at dksX2_init_0 23 rfl rfl)
theorem dX2_init_24 : decode cX2_init 24 = .ok (.dup, 1) := dk_89 (dk_at dksX2_init_1 0 rfl rfl)
theorem dX2_init_25 : decode cX2_init 25 = .ok (.iconst 1, 1) := dk_4 (dk_at dksX2_init_1 1 rfl rfl)
theorem dX2_init_26 : decode cX2_init 26 = .ok (.bipush 10, 2) := dk_16 10 (dk_at dksX2_init_1 2 rfl rfl)
theorem dX2_init_28 : decode cX2_init 28 = .ok (.iastore, 1) := dk_79 (dk_at dksX2_init_1 4 rfl rfl)
theorem dX2_init_29 : decode cX2_init 29 = .ok (.dup, 1) := dk_89 (dk_at dksX2_init_1 5 rfl rfl)
theorem dX2_init_30 : decode cX2_init 30 = .ok (.iconst 2, 1) := dk_5 (dk_at dksX2_init_1 6 rfl rfl)
theorem dX2_init_31 : decode cX2_init 31 = .ok (.bipush 10, 2) := dk_16 10 (dk_at dksX2_init_1 7 rfl rfl)
theorem dX2_init_33 : decode cX2_init 33 = .ok (.iastore, 1) := dk_79 (dk_at dksX2_init_1 9 rfl rfl)
theorem dX2_init_34 : decode cX2_init 34 = .ok (.dup, 1) := dk_89 (dk_at dksX2_init_1 10 rfl rfl)
theorem dX2_init_35 : decode cX2_init 35 = .ok (.iconst 3, 1) := dk_6 (dk_at dksX2_init_1 11 rfl rfl)
theorem dX2_init_36 : decode cX2_init 36 = .ok (.bipush 10, 2) := dk_16 10 (dk_at dksX2_init_1 12 rfl rfl)
theorem dX2_init_38 : decode cX2_init 38 = .ok (.iastore, 1) := dk_79 (dk_at dksX2_init_1 14 rfl rfl)
theorem dX2_init_39 : decode cX2_init 39 = .ok (.dup, 1) := dk_89 (dk_at dksX2_init_1 15 rfl rfl)
theorem dX2_init_40 : decode cX2_init 40 = .ok (.iconst 4, 1) := dk_7 (dk_at dksX2_init_1 16 rfl rfl)
theorem dX2_init_41 : decode cX2_init 41 = .ok (.bipush 10, 2) := dk_16 10 (dk_at dksX2_init_1 17 rfl rfl)
theorem dX2_init_43 : decode cX2_init 43 = .ok (.iastore, 1) := dk_79 (dk_at dksX2_init_1 19 rfl rfl)
theorem dX2_init_44 : decode cX2_init 44 = .ok (.putfield 18, 3) := dk_181 0 18 (dk_at dksX2_init_1 20 rfl rfl)
theorem dX2_init_47 : decode cX2_init 47 = .ok (.return_, 1) := dk_177 (dk_at dksX2_init_1 23 rfl rfl)
abbrev cX2_fits : ByteArray := prog_19_method_2_code
def yX2_fits : MethodName := ⟨RX2, "fits", "(LHatsDecide$Look;)I"⟩
def dkwX2_fits_2 : List UInt8 := [192, 0, 30, 180, 0, 42, 96, 61, 132, 3, 1, 167, 255, 204, 28, 172]
abbrev dktX2_fits_2 : List UInt8 := dkwX2_fits_2 ++ []
def dkwX2_fits_1 : List UInt8 := [192, 0, 30, 180, 0, 32, 43, 182, 0, 36, 153, 0, 20, 28, 42, 180, 0, 12, 29, 182, 0, 26]
abbrev dktX2_fits_1 : List UInt8 := dkwX2_fits_1 ++ dktX2_fits_2
def dkwX2_fits_0 : List UInt8 := [3, 61, 3, 62, 29, 42, 180, 0, 12, 182, 0, 22, 162, 0, 47, 42, 180, 0, 12, 29, 182, 0, 26]
abbrev dktX2_fits_0 : List UInt8 := dkwX2_fits_0 ++ dktX2_fits_1
theorem dksX2_fits_0 : cX2_fits.data.toList.drop 0 = dktX2_fits_0 := by decide +kernel
theorem dksX2_fits_1 : cX2_fits.data.toList.drop 23 = dktX2_fits_1 := dk_seg dksX2_fits_0 23 rfl rfl
theorem dksX2_fits_2 : cX2_fits.data.toList.drop 45 = dktX2_fits_2 := dk_seg dksX2_fits_1 22 rfl rfl
theorem dX2_fits_0 : decode cX2_fits 0 = .ok (.iconst 0, 1) := dk_3 (dk_at dksX2_fits_0 0 rfl rfl)
theorem dX2_fits_1 : decode cX2_fits 1 = .ok (.istore_n 2, 1) := dk_61 (dk_at dksX2_fits_0 1 rfl rfl)
theorem dX2_fits_2 : decode cX2_fits 2 = .ok (.iconst 0, 1) := dk_3 (dk_at dksX2_fits_0 2 rfl rfl)
theorem dX2_fits_3 : decode cX2_fits 3 = .ok (.istore_n 3, 1) := dk_62 (dk_at dksX2_fits_0 3 rfl rfl)
theorem dX2_fits_4 : decode cX2_fits 4 = .ok (.iload_n 3, 1) := dk_29 (dk_at dksX2_fits_0 4 rfl rfl)
theorem dX2_fits_5 : decode cX2_fits 5 = .ok (.aload_n 0, 1) := dk_42 (dk_at dksX2_fits_0 5 rfl rfl)
theorem dX2_fits_6 : decode cX2_fits 6 = .ok (.getfield 12, 3) := dk_180 0 12 (dk_at dksX2_fits_0 6 rfl rfl)
theorem dX2_fits_9 : decode cX2_fits 9 = .ok (.invokevirtual 22, 3) := dk_182 0 22 (dk_at dksX2_fits_0 9 rfl rfl)
theorem dX2_fits_12 : decode cX2_fits 12 = .ok (.if_icmp .ge 47, 3) := dk_162 0 47 (dk_at dksX2_fits_0 12 rfl rfl)
theorem dX2_fits_15 : decode cX2_fits 15 = .ok (.aload_n 0, 1) := dk_42 (dk_at dksX2_fits_0 15 rfl rfl)
theorem dX2_fits_16 : decode cX2_fits 16 = .ok (.getfield 12, 3) := dk_180 0 12 (dk_at dksX2_fits_0 16 rfl rfl)
theorem dX2_fits_19 : decode cX2_fits 19 = .ok (.iload_n 3, 1) := dk_29 (dk_at dksX2_fits_0 19 rfl rfl)
theorem dX2_fits_20 : decode cX2_fits 20 = .ok (.invokevirtual 26, 3) := dk_182 0 26 (dk_at dksX2_fits_0 20 rfl rfl)
theorem dX2_fits_23 : decode cX2_fits 23 = .ok (.checkcast 30, 3) := dk_192 0 30 (dk_at dksX2_fits_1 0 rfl rfl)
theorem dX2_fits_26 : decode cX2_fits 26 = .ok (.getfield 32, 3) := dk_180 0 32 (dk_at dksX2_fits_1 3 rfl rfl)
theorem dX2_fits_29 : decode cX2_fits 29 = .ok (.aload_n 1, 1) := dk_43 (dk_at dksX2_fits_1 6 rfl rfl)
theorem dX2_fits_30 : decode cX2_fits 30 = .ok (.invokevirtual 36, 3) := dk_182 0 36 (dk_at dksX2_fits_1 7 rfl rfl)
theorem dX2_fits_33 : decode cX2_fits 33 = .ok (.ifCond .eq 20, 3) := dk_153 0 20 (dk_at dksX2_fits_1 10 rfl rfl)
theorem dX2_fits_36 : decode cX2_fits 36 = .ok (.iload_n 2, 1) := dk_28 (dk_at dksX2_fits_1 13 rfl rfl)
theorem dX2_fits_37 : decode cX2_fits 37 = .ok (.aload_n 0, 1) := dk_42 (dk_at dksX2_fits_1 14 rfl rfl)
theorem dX2_fits_38 : decode cX2_fits 38 = .ok (.getfield 12, 3) := dk_180 0 12 (dk_at dksX2_fits_1 15 rfl rfl)
theorem dX2_fits_41 : decode cX2_fits 41 = .ok (.iload_n 3, 1) := dk_29 (dk_at dksX2_fits_1 18 rfl rfl)
theorem dX2_fits_42 : decode cX2_fits 42 = .ok (.invokevirtual 26, 3) := dk_182 0 26 (dk_at dksX2_fits_1 19 rfl rfl)
theorem dX2_fits_45 : decode cX2_fits 45 = .ok (.checkcast 30, 3) := dk_192 0 30 (dk_at dksX2_fits_2 0 rfl rfl)
theorem dX2_fits_48 : decode cX2_fits 48 = .ok (.getfield 42, 3) := dk_180 0 42 (dk_at dksX2_fits_2 3 rfl rfl)
theorem dX2_fits_51 : decode cX2_fits 51 = .ok (.iadd, 1) := dk_96 (dk_at dksX2_fits_2 6 rfl rfl)
theorem dX2_fits_52 : decode cX2_fits 52 = .ok (.istore_n 2, 1) := dk_61 (dk_at dksX2_fits_2 7 rfl rfl)
theorem dX2_fits_53 : decode cX2_fits 53 = .ok (.iinc 3 1, 3) := dk_132 3 1 (dk_at dksX2_fits_2 8 rfl rfl)
theorem dX2_fits_56 : decode cX2_fits 56 = .ok (.goto (-52), 3) := dk_167 255 204 (dk_at dksX2_fits_2 11 rfl rfl)
theorem dX2_fits_59 : decode cX2_fits 59 = .ok (.iload_n 2, 1) := dk_28 (dk_at dksX2_fits_2 14 rfl rfl)
theorem dX2_fits_60 : decode cX2_fits 60 = .ok (.ireturn, 1) := dk_172 (dk_at dksX2_fits_2 15 rfl rfl)
theorem q98 : (Jvm.Cond.initialized "HatsDecide$Town") ∈ lw_all := lw_g (lw_at lw_m1 3 rfl) rfl
theorem q174 : (Jvm.Cond.instantiable "HatsDecide$Town" (4 : Nat)) ∈ lw_all := lw_g (lw_at lw_m1 79 rfl) rfl
theorem q176 : (Jvm.Cond.instanceMethod ({ cls := "HatsDecide$Town", name := "<init>", desc := "()V" } : Jvm.MethodName)) ∈ lw_all := lw_g (lw_at lw_m1 81 rfl) rfl
theorem q177 : (Jvm.Cond.code ({ cls := "HatsDecide$Town", name := "<init>", desc := "()V" } : Jvm.MethodName) prog_19_method_1_code (1 : Nat) (Option.none : Option Jvm.ClassFile.FieldType)) ∈ lw_all := lw_g (lw_at lw_m1 82 rfl) rfl
theorem q178 : (Jvm.Cond.methodLink "HatsDecide$Town" (3 : Nat) ({ cls := "java/lang/Object", name := "<init>", desc := "()V" } : Jvm.MethodName)) ∈ lw_all := lw_g (lw_at lw_m1 83 rfl) rfl
theorem q179 : (Jvm.Cond.classLink "HatsDecide$Town" (9 : Nat) "java/util/ArrayList") ∈ lw_all := lw_g (lw_at lw_m1 84 rfl) rfl
theorem q181 : (Jvm.Cond.methodLink "HatsDecide$Town" (11 : Nat) ({ cls := "java/util/ArrayList", name := "<init>", desc := "()V" } : Jvm.MethodName)) ∈ lw_all := lw_g (lw_at lw_m1 86 rfl) rfl
theorem q205 : (Jvm.Cond.fieldLink "HatsDecide$Town" (12 : Nat) "HatsDecide$Town" "clauses" "Ljava/util/ArrayList;") ∈ lw_all := lw_g (lw_at lw_m1 110 rfl) rfl
theorem q207 : (Jvm.Cond.fieldLink "HatsDecide$Town" (18 : Nat) "HatsDecide$Town" "works" "[I") ∈ lw_all := lw_g (lw_at lw_m1 112 rfl) rfl
theorem q214 : (Jvm.Cond.laysFinal "HatsDecide$Town" "HatsDecide$Town" "clauses" "Ljava/util/ArrayList;") ∈ lw_all := lw_g (lw_at lw_m1 119 rfl) rfl
theorem q215 : (Jvm.Cond.soleField "HatsDecide$Town" "clauses") ∈ lw_all := lw_g (lw_at lw_m1 120 rfl) rfl
theorem q216 : (Jvm.Cond.laysFinal "HatsDecide$Town" "HatsDecide$Town" "works" "[I") ∈ lw_all := lw_g (lw_at lw_m1 121 rfl) rfl
theorem q217 : (Jvm.Cond.soleField "HatsDecide$Town" "works") ∈ lw_all := lw_g (lw_at lw_m1 122 rfl) rfl
theorem q218 : (Jvm.Cond.lays "HatsDecide$Town" "HatsDecide$Town" "many" "I") ∈ lw_all := lw_g (lw_at lw_m1 123 rfl) rfl
theorem q219 : (Jvm.Cond.soleField "HatsDecide$Town" "many") ∈ lw_all := lw_g (lw_at lw_m1 124 rfl) rfl
theorem q220 : (Jvm.Cond.lays "HatsDecide$Town" "HatsDecide$Town" "moth" "I") ∈ lw_all := lw_g (lw_at lw_m1 125 rfl) rfl
theorem q221 : (Jvm.Cond.soleField "HatsDecide$Town" "moth") ∈ lw_all := lw_g (lw_at lw_m1 126 rfl) rfl
theorem q222 : (Jvm.Cond.superclass "HatsDecide$Town" "java/lang/Object") ∈ lw_all := lw_g (lw_at lw_m1 127 rfl) rfl
theorem q609 : (Jvm.Cond.instanceMethod ({ cls := "HatsDecide$Town", name := "fits", desc := "(LHatsDecide$Look;)I" } : Jvm.MethodName)) ∈ lw_all := lw_g (lw_at lw_m3 34 rfl) rfl
theorem q610 : (Jvm.Cond.selects "HatsDecide$Town" ({ cls := "HatsDecide$Town", name := "fits", desc := "(LHatsDecide$Look;)I" } : Jvm.MethodName) ({ cls := "HatsDecide$Town", name := "fits", desc := "(LHatsDecide$Look;)I" } : Jvm.MethodName)) ∈ lw_all := lw_g (lw_at lw_m3 35 rfl) rfl
theorem q611 : (Jvm.Cond.code ({ cls := "HatsDecide$Town", name := "fits", desc := "(LHatsDecide$Look;)I" } : Jvm.MethodName) prog_19_method_2_code (4 : Nat) (Option.some Jvm.ClassFile.FieldType.int)) ∈ lw_all := lw_g (lw_at lw_m3 36 rfl) rfl
theorem q612 : (Jvm.Cond.methodLink "HatsDecide$Town" (22 : Nat) ({ cls := "java/util/ArrayList", name := "size", desc := "()I" } : Jvm.MethodName)) ∈ lw_all := lw_g (lw_at lw_m3 37 rfl) rfl
theorem q616 : (Jvm.Cond.methodLink "HatsDecide$Town" (26 : Nat) ({ cls := "java/util/ArrayList", name := "get", desc := "(I)Ljava/lang/Object;" } : Jvm.MethodName)) ∈ lw_all := lw_g (lw_at lw_m3 41 rfl) rfl
theorem q630 : (Jvm.Cond.classLink "HatsDecide$Town" (30 : Nat) "HatsDecide$Clause") ∈ lw_all := lw_g (lw_at lw_m3 55 rfl) rfl
theorem q631 : (Jvm.Cond.methodLink "HatsDecide$Town" (36 : Nat) ({ cls := "HatsDecide$Test", name := "holds", desc := "(LHatsDecide$Look;)Z" } : Jvm.MethodName)) ∈ lw_all := lw_g (lw_at lw_m3 56 rfl) rfl
theorem q1016 : (Jvm.Cond.selects "HatsDecide$Town" ({ cls := "java/lang/Object", name := "getClass", desc := "()Ljava/lang/Class;" } : Jvm.MethodName) ({ cls := "java/lang/Object", name := "getClass", desc := "()Ljava/lang/Class;" } : Jvm.MethodName)) ∈ lw_all := lw_g (lw_at lw_m4 201 rfl) rfl
theorem q1046 : (Jvm.Cond.fieldLinkNest "HatsDecide$Town" (42 : Nat) "HatsDecide$Clause" "n" "I" "HatsDecide") ∈ lw_tbl := lw_at lw_m4 231 rfl
theorem q1048 : (Jvm.Cond.fieldLinkNest "HatsDecide$Town" (32 : Nat) "HatsDecide$Clause" "test" "LHatsDecide$Test;" "HatsDecide") ∈ lw_tbl := lw_at lw_m4 233 rfl
theorem q2178 : (Jvm.Cond.castable "HatsDecide$Town" "java/lang/Object") ∈ lw_tbl := lw_at lw_m9 163 rfl
theorem in_X2 : ∀ w ∈ wsX20, w ∈ lw_all := lw_in wsX20 [214, 216, 218, 220] (by decide +kernel) (by decide +kernel)

/-! HatsDecide$Against -/
set_option maxRecDepth 100000
def RX20 : String := "HatsDecide$Against"
def TX20 : u_T := fun k => match k with
  | 0 => ("HatsDecide$Against", "letter", "I", true)
  | 1 => ("HatsDecide$Against", "sign", "I", true)
  | _ => ("HatsDecide$Against", "n", "I", true)
def tyX20 : Nat → FieldType := fun k => match k with
  | 0 => .int
  | 1 => .int
  | _ => .int
abbrev wsX200 : List Cond := u_ws RX20 TX20 3
theorem nmX20 : ∀ a, a < 3 → ∀ b, b < 3 → a ≠ b → (TX20 a).2.1 ≠ (TX20 b).2.1 := by decide +kernel
theorem tyX20_ok : ∀ k, k < 3 → parseFieldDescriptor (TX20 k).2.2.1 = some (tyX20 k) := by decide +kernel
abbrev cX20_holds : ByteArray := prog_2_method_2_code
def yX20_holds : MethodName := ⟨RX20, "holds", "(LHatsDecide$Look;)Z"⟩
def dkwX20_holds_3 : List UInt8 := [182, 0, 19, 42, 180, 0, 16, 164, 0, 7, 4, 167, 0, 4, 3, 172]
abbrev dktX20_holds_3 : List UInt8 := dkwX20_holds_3 ++ []
def dkwX20_holds_2 : List UInt8 := [182, 0, 19, 42, 180, 0, 16, 160, 0, 7, 4, 167, 0, 27, 3, 167, 0, 23, 43, 42, 180, 0, 7]
abbrev dktX20_holds_2 : List UInt8 := dkwX20_holds_2 ++ dktX20_holds_3
def dkwX20_holds_1 : List UInt8 := [4, 167, 0, 59, 3, 167, 0, 55, 42, 180, 0, 13, 16, 61, 160, 0, 26, 43, 42, 180, 0, 7]
abbrev dktX20_holds_1 : List UInt8 := dkwX20_holds_1 ++ dktX20_holds_2
def dkwX20_holds_0 : List UInt8 := [42, 180, 0, 13, 16, 60, 160, 0, 26, 43, 42, 180, 0, 7, 182, 0, 19, 42, 180, 0, 16, 162, 0, 7]
abbrev dktX20_holds_0 : List UInt8 := dkwX20_holds_0 ++ dktX20_holds_1
theorem dksX20_holds_0 : cX20_holds.data.toList.drop 0 = dktX20_holds_0 := by decide +kernel
theorem dksX20_holds_1 : cX20_holds.data.toList.drop 24 = dktX20_holds_1 := dk_seg dksX20_holds_0 24 rfl rfl
theorem dksX20_holds_2 : cX20_holds.data.toList.drop 46 = dktX20_holds_2 := dk_seg dksX20_holds_1 22 rfl rfl
theorem dksX20_holds_3 : cX20_holds.data.toList.drop 69 = dktX20_holds_3 := dk_seg dksX20_holds_2 23 rfl rfl
theorem dX20_holds_0 : decode cX20_holds 0 = .ok (.aload_n 0, 1) := dk_42 (dk_at dksX20_holds_0 0 rfl rfl)
theorem dX20_holds_1 : decode cX20_holds 1 = .ok (.getfield 13, 3) := dk_180 0 13 (dk_at dksX20_holds_0 1 rfl rfl)
theorem dX20_holds_4 : decode cX20_holds 4 = .ok (.bipush 60, 2) := dk_16 60 (dk_at dksX20_holds_0 4 rfl rfl)
theorem dX20_holds_6 : decode cX20_holds 6 = .ok (.if_icmp .ne 26, 3) := dk_160 0 26 (dk_at dksX20_holds_0 6 rfl rfl)
theorem dX20_holds_9 : decode cX20_holds 9 = .ok (.aload_n 1, 1) := dk_43 (dk_at dksX20_holds_0 9 rfl rfl)
theorem dX20_holds_10 : decode cX20_holds 10 = .ok (.aload_n 0, 1) := dk_42 (dk_at dksX20_holds_0 10 rfl rfl)
theorem dX20_holds_11 : decode cX20_holds 11 = .ok (.getfield 7, 3) := dk_180 0 7 (dk_at dksX20_holds_0 11 rfl rfl)
theorem dX20_holds_14 : decode cX20_holds 14 = .ok (.invokevirtual 19, 3) := dk_182 0 19 (dk_at dksX20_holds_0 14 rfl rfl)
theorem dX20_holds_17 : decode cX20_holds 17 = .ok (.aload_n 0, 1) := dk_42 (dk_at dksX20_holds_0 17 rfl rfl)
theorem dX20_holds_18 : decode cX20_holds 18 = .ok (.getfield 16, 3) := dk_180 0 16 (dk_at dksX20_holds_0 18 rfl rfl)
theorem dX20_holds_21 : decode cX20_holds 21 = .ok (.if_icmp .ge 7, 3) := dk_162 0 7 (dk_at dksX20_holds_0 21 rfl rfl)
theorem dX20_holds_24 : decode cX20_holds 24 = .ok (.iconst 1, 1) := dk_4 (dk_at dksX20_holds_1 0 rfl rfl)
theorem dX20_holds_25 : decode cX20_holds 25 = .ok (.goto 59, 3) := dk_167 0 59 (dk_at dksX20_holds_1 1 rfl rfl)
theorem dX20_holds_28 : decode cX20_holds 28 = .ok (.iconst 0, 1) := dk_3 (dk_at dksX20_holds_1 4 rfl rfl)
theorem dX20_holds_29 : decode cX20_holds 29 = .ok (.goto 55, 3) := dk_167 0 55 (dk_at dksX20_holds_1 5 rfl rfl)
theorem dX20_holds_32 : decode cX20_holds 32 = .ok (.aload_n 0, 1) := dk_42 (dk_at dksX20_holds_1 8 rfl rfl)
theorem dX20_holds_33 : decode cX20_holds 33 = .ok (.getfield 13, 3) := dk_180 0 13 (dk_at dksX20_holds_1 9 rfl rfl)
theorem dX20_holds_36 : decode cX20_holds 36 = .ok (.bipush 61, 2) := dk_16 61 (dk_at dksX20_holds_1 12 rfl rfl)
theorem dX20_holds_38 : decode cX20_holds 38 = .ok (.if_icmp .ne 26, 3) := dk_160 0 26 (dk_at dksX20_holds_1 14 rfl rfl)
theorem dX20_holds_41 : decode cX20_holds 41 = .ok (.aload_n 1, 1) := dk_43 (dk_at dksX20_holds_1 17 rfl rfl)
theorem dX20_holds_42 : decode cX20_holds 42 = .ok (.aload_n 0, 1) := dk_42 (dk_at dksX20_holds_1 18 rfl rfl)
theorem dX20_holds_43 : decode cX20_holds 43 = .ok (.getfield 7, 3) := dk_180 0 7 (dk_at dksX20_holds_1 19 rfl rfl)
theorem dX20_holds_46 : decode cX20_holds 46 = .ok (.invokevirtual 19, 3) := dk_182 0 19 (dk_at dksX20_holds_2 0 rfl rfl)
theorem dX20_holds_49 : decode cX20_holds 49 = .ok (.aload_n 0, 1) := dk_42 (dk_at dksX20_holds_2 3 rfl rfl)
theorem dX20_holds_50 : decode cX20_holds 50 = .ok (.getfield 16, 3) := dk_180 0 16 (dk_at dksX20_holds_2 4 rfl rfl)
theorem dX20_holds_53 : decode cX20_holds 53 = .ok (.if_icmp .ne 7, 3) := dk_160 0 7 (dk_at dksX20_holds_2 7 rfl rfl)
theorem dX20_holds_56 : decode cX20_holds 56 = .ok (.iconst 1, 1) := dk_4 (dk_at dksX20_holds_2 10 rfl rfl)
theorem dX20_holds_57 : decode cX20_holds 57 = .ok (.goto 27, 3) := dk_167 0 27 (dk_at dksX20_holds_2 11 rfl rfl)
theorem dX20_holds_60 : decode cX20_holds 60 = .ok (.iconst 0, 1) := dk_3 (dk_at dksX20_holds_2 14 rfl rfl)
theorem dX20_holds_61 : decode cX20_holds 61 = .ok (.goto 23, 3) := dk_167 0 23 (dk_at dksX20_holds_2 15 rfl rfl)
theorem dX20_holds_64 : decode cX20_holds 64 = .ok (.aload_n 1, 1) := dk_43 (dk_at dksX20_holds_2 18 rfl rfl)
theorem dX20_holds_65 : decode cX20_holds 65 = .ok (.aload_n 0, 1) := dk_42 (dk_at dksX20_holds_2 19 rfl rfl)
theorem dX20_holds_66 : decode cX20_holds 66 = .ok (.getfield 7, 3) := dk_180 0 7 (dk_at dksX20_holds_2 20 rfl rfl)
theorem dX20_holds_69 : decode cX20_holds 69 = .ok (.invokevirtual 19, 3) := dk_182 0 19 (dk_at dksX20_holds_3 0 rfl rfl)
theorem dX20_holds_72 : decode cX20_holds 72 = .ok (.aload_n 0, 1) := dk_42 (dk_at dksX20_holds_3 3 rfl rfl)
theorem dX20_holds_73 : decode cX20_holds 73 = .ok (.getfield 16, 3) := dk_180 0 16 (dk_at dksX20_holds_3 4 rfl rfl)
theorem dX20_holds_76 : decode cX20_holds 76 = .ok (.if_icmp .le 7, 3) := dk_164 0 7 (dk_at dksX20_holds_3 7 rfl rfl)
theorem dX20_holds_79 : decode cX20_holds 79 = .ok (.iconst 1, 1) := dk_4 (dk_at dksX20_holds_3 10 rfl rfl)
theorem dX20_holds_80 : decode cX20_holds 80 = .ok (.goto 4, 3) := dk_167 0 4 (dk_at dksX20_holds_3 11 rfl rfl)
theorem dX20_holds_83 : decode cX20_holds 83 = .ok (.iconst 0, 1) := dk_3 (dk_at dksX20_holds_3 14 rfl rfl)
theorem dX20_holds_84 : decode cX20_holds 84 = .ok (.ireturn, 1) := dk_172 (dk_at dksX20_holds_3 15 rfl rfl)
abbrev cX20_init : ByteArray := prog_2_method_1_code
def yX20_init : MethodName := ⟨RX20, "<init>", "(III)V"⟩
def dkwX20_init_0 : List UInt8 := [42, 183, 0, 1, 42, 27, 181, 0, 7, 42, 28, 181, 0, 13, 42, 29, 181, 0, 16, 177]
abbrev dktX20_init_0 : List UInt8 := dkwX20_init_0 ++ []
theorem dksX20_init_0 : cX20_init.data.toList.drop 0 = dktX20_init_0 := by decide +kernel
theorem dX20_init_0 : decode cX20_init 0 = .ok (.aload_n 0, 1) := dk_42 (dk_at dksX20_init_0 0 rfl rfl)
theorem dX20_init_1 : decode cX20_init 1 = .ok (.invokespecial 1, 3) := dk_183 0 1 (dk_at dksX20_init_0 1 rfl rfl)
theorem dX20_init_4 : decode cX20_init 4 = .ok (.aload_n 0, 1) := dk_42 (dk_at dksX20_init_0 4 rfl rfl)
theorem dX20_init_5 : decode cX20_init 5 = .ok (.iload_n 1, 1) := dk_27 (dk_at dksX20_init_0 5 rfl rfl)
theorem dX20_init_6 : decode cX20_init 6 = .ok (.putfield 7, 3) := dk_181 0 7 (dk_at dksX20_init_0 6 rfl rfl)
theorem dX20_init_9 : decode cX20_init 9 = .ok (.aload_n 0, 1) := dk_42 (dk_at dksX20_init_0 9 rfl rfl)
theorem dX20_init_10 : decode cX20_init 10 = .ok (.iload_n 2, 1) := dk_28 (dk_at dksX20_init_0 10 rfl rfl)
theorem dX20_init_11 : decode cX20_init 11 = .ok (.putfield 13, 3) := dk_181 0 13 (dk_at dksX20_init_0 11 rfl rfl)
theorem dX20_init_14 : decode cX20_init 14 = .ok (.aload_n 0, 1) := dk_42 (dk_at dksX20_init_0 14 rfl rfl)
theorem dX20_init_15 : decode cX20_init 15 = .ok (.iload_n 3, 1) := dk_29 (dk_at dksX20_init_0 15 rfl rfl)
theorem dX20_init_16 : decode cX20_init 16 = .ok (.putfield 16, 3) := dk_181 0 16 (dk_at dksX20_init_0 16 rfl rfl)
theorem dX20_init_19 : decode cX20_init 19 = .ok (.return_, 1) := dk_177 (dk_at dksX20_init_0 19 rfl rfl)
theorem q128 : (Jvm.Cond.initialized "HatsDecide$Against") ∈ lw_all := lw_g (lw_at lw_m1 33 rfl) rfl
theorem q634 : (Jvm.Cond.selects "HatsDecide$Against" ({ cls := "HatsDecide$Test", name := "holds", desc := "(LHatsDecide$Look;)Z" } : Jvm.MethodName) ({ cls := "HatsDecide$Against", name := "holds", desc := "(LHatsDecide$Look;)Z" } : Jvm.MethodName)) ∈ lw_all := lw_g (lw_at lw_m3 59 rfl) rfl
theorem q635 : (Jvm.Cond.instanceMethod ({ cls := "HatsDecide$Against", name := "holds", desc := "(LHatsDecide$Look;)Z" } : Jvm.MethodName)) ∈ lw_all := lw_g (lw_at lw_m3 60 rfl) rfl
theorem q636 : (Jvm.Cond.code ({ cls := "HatsDecide$Against", name := "holds", desc := "(LHatsDecide$Look;)Z" } : Jvm.MethodName) prog_2_method_2_code (2 : Nat) (Option.some Jvm.ClassFile.FieldType.boolean)) ∈ lw_all := lw_g (lw_at lw_m3 61 rfl) rfl
theorem q637 : (Jvm.Cond.methodLink "HatsDecide$Against" (19 : Nat) ({ cls := "HatsDecide$Look", name := "of", desc := "(I)I" } : Jvm.MethodName)) ∈ lw_all := lw_g (lw_at lw_m3 62 rfl) rfl
theorem q955 : (Jvm.Cond.instantiable "HatsDecide$Against" (3 : Nat)) ∈ lw_all := lw_g (lw_at lw_m4 140 rfl) rfl
theorem q957 : (Jvm.Cond.instanceMethod ({ cls := "HatsDecide$Against", name := "<init>", desc := "(III)V" } : Jvm.MethodName)) ∈ lw_all := lw_g (lw_at lw_m4 142 rfl) rfl
theorem q958 : (Jvm.Cond.code ({ cls := "HatsDecide$Against", name := "<init>", desc := "(III)V" } : Jvm.MethodName) prog_2_method_1_code (4 : Nat) (Option.none : Option Jvm.ClassFile.FieldType)) ∈ lw_all := lw_g (lw_at lw_m4 143 rfl) rfl
theorem q959 : (Jvm.Cond.methodLinkNest "HatsDecide$Against" (1 : Nat) ({ cls := "HatsDecide$Test", name := "<init>", desc := "()V" } : Jvm.MethodName) "HatsDecide") ∈ lw_tbl := lw_at lw_m4 144 rfl
theorem q960 : (Jvm.Cond.fieldLink "HatsDecide$Against" (7 : Nat) "HatsDecide$Against" "letter" "I") ∈ lw_all := lw_g (lw_at lw_m4 145 rfl) rfl
theorem q961 : (Jvm.Cond.fieldLink "HatsDecide$Against" (13 : Nat) "HatsDecide$Against" "sign" "I") ∈ lw_all := lw_g (lw_at lw_m4 146 rfl) rfl
theorem q962 : (Jvm.Cond.fieldLink "HatsDecide$Against" (16 : Nat) "HatsDecide$Against" "n" "I") ∈ lw_all := lw_g (lw_at lw_m4 147 rfl) rfl
theorem q963 : (Jvm.Cond.laysFinal "HatsDecide$Against" "HatsDecide$Against" "letter" "I") ∈ lw_all := lw_g (lw_at lw_m4 148 rfl) rfl
theorem q964 : (Jvm.Cond.soleField "HatsDecide$Against" "letter") ∈ lw_all := lw_g (lw_at lw_m4 149 rfl) rfl
theorem q965 : (Jvm.Cond.laysFinal "HatsDecide$Against" "HatsDecide$Against" "sign" "I") ∈ lw_all := lw_g (lw_at lw_m4 150 rfl) rfl
theorem q966 : (Jvm.Cond.soleField "HatsDecide$Against" "sign") ∈ lw_all := lw_g (lw_at lw_m4 151 rfl) rfl
theorem q967 : (Jvm.Cond.laysFinal "HatsDecide$Against" "HatsDecide$Against" "n" "I") ∈ lw_all := lw_g (lw_at lw_m4 152 rfl) rfl
theorem q968 : (Jvm.Cond.soleField "HatsDecide$Against" "n") ∈ lw_all := lw_g (lw_at lw_m4 153 rfl) rfl
theorem q969 : (Jvm.Cond.superclass "HatsDecide$Against" "HatsDecide$Test") ∈ lw_all := lw_g (lw_at lw_m4 154 rfl) rfl
theorem q1001 : (Jvm.Cond.selects "HatsDecide$Against" ({ cls := "java/lang/Object", name := "getClass", desc := "()Ljava/lang/Class;" } : Jvm.MethodName) ({ cls := "java/lang/Object", name := "getClass", desc := "()Ljava/lang/Class;" } : Jvm.MethodName)) ∈ lw_all := lw_g (lw_at lw_m4 186 rfl) rfl
theorem q2162 : (Jvm.Cond.castable "HatsDecide$Against" "HatsDecide$Test") ∈ lw_tbl := lw_at lw_m9 147 rfl
theorem q2194 : (Jvm.Cond.castable "HatsDecide$Against" "java/lang/Object") ∈ lw_tbl := lw_at lw_m9 179 rfl
theorem in_X20 : ∀ w ∈ wsX200, w ∈ lw_all := lw_in wsX200 [963, 965, 967] (by decide +kernel) (by decide +kernel)

/-! HatsDecide$Look -/
set_option maxRecDepth 100000
def RX3 : String := "HatsDecide$Look"
def TX3 : u_T := fun k => match k with
  | 0 => ("HatsDecide$Look", "hat", "I", false)
  | 1 => ("HatsDecide$Look", "head", "I", false)
  | 2 => ("HatsDecide$Look", "kind", "I", false)
  | 3 => ("HatsDecide$Look", "trade", "I", false)
  | 4 => ("HatsDecide$Look", "used", "I", false)
  | _ => ("HatsDecide$Look", "day", "I", false)
def tyX3 : Nat → FieldType := fun k => match k with
  | 0 => .int
  | 1 => .int
  | 2 => .int
  | 3 => .int
  | 4 => .int
  | _ => .int
abbrev wsX30 : List Cond := u_ws RX3 TX3 6
theorem nmX3 : ∀ a, a < 6 → ∀ b, b < 6 → a ≠ b → (TX3 a).2.1 ≠ (TX3 b).2.1 := by decide +kernel
theorem tyX3_ok : ∀ k, k < 6 → parseFieldDescriptor (TX3 k).2.2.1 = some (tyX3 k) := by decide +kernel
abbrev cX3_init : ByteArray := prog_7_method_1_code
def yX3_init : MethodName := ⟨RX3, "<init>", "()V"⟩
theorem dX3_init_0 : decode cX3_init 0 = .ok (.aload_n 0, 1) := by decide +kernel
theorem dX3_init_1 : decode cX3_init 1 = .ok (.invokespecial 1, 3) := by decide +kernel
theorem dX3_init_4 : decode cX3_init 4 = .ok (.return_, 1) := by decide +kernel
abbrev cX3_of : ByteArray := prog_7_method_2_code
def yX3_of : MethodName := ⟨RX3, "of", "(I)I"⟩
def dkwX3_of_3 : List UInt8 := [172, 42, 180, 0, 25, 172]
abbrev dktX3_of_3 : List UInt8 := dkwX3_of_3 ++ []
def dkwX3_of_2 : List UInt8 := [42, 180, 0, 7, 172, 42, 180, 0, 13, 172, 42, 180, 0, 16, 172, 42, 180, 0, 19, 172, 42, 180, 0, 22]
abbrev dktX3_of_2 : List UInt8 := dkwX3_of_2 ++ dktX3_of_3
def dkwX3_of_1 : List UInt8 := [171, 0, 0, 0, 0, 0, 76, 0, 0, 0, 5, 0, 0, 0, 97, 0, 0, 0, 51, 0, 0, 0, 101, 0, 0, 0, 56, 0, 0, 0, 107, 0, 0, 0, 61, 0, 0, 0, 116, 0, 0, 0, 66, 0, 0, 0, 117, 0, 0, 0, 71]
abbrev dktX3_of_1 : List UInt8 := dkwX3_of_1 ++ dktX3_of_2
def dkwX3_of_0 : List UInt8 := [27]
abbrev dktX3_of_0 : List UInt8 := dkwX3_of_0 ++ dktX3_of_1
theorem dksX3_of_0 : cX3_of.data.toList.drop 0 = dktX3_of_0 := by decide +kernel
theorem dksX3_of_1 : cX3_of.data.toList.drop 1 = dktX3_of_1 := dk_seg dksX3_of_0 1 rfl rfl
theorem dksX3_of_2 : cX3_of.data.toList.drop 52 = dktX3_of_2 := dk_seg dksX3_of_1 51 rfl rfl
theorem dksX3_of_3 : cX3_of.data.toList.drop 76 = dktX3_of_3 := dk_seg dksX3_of_2 24 rfl rfl
theorem dX3_of_0 : decode cX3_of 0 = .ok (.iload_n 1, 1) := dk_27 (dk_at dksX3_of_0 0 rfl rfl)
theorem dX3_of_1 : decode cX3_of 1 = .ok (.lookupswitch 76 #[(97, 51), (101, 56), (107, 61), (116, 66), (117, 71)], 51) := by decide +kernel
theorem dX3_of_52 : decode cX3_of 52 = .ok (.aload_n 0, 1) := dk_42 (dk_at dksX3_of_2 0 rfl rfl)
theorem dX3_of_53 : decode cX3_of 53 = .ok (.getfield 7, 3) := dk_180 0 7 (dk_at dksX3_of_2 1 rfl rfl)
theorem dX3_of_56 : decode cX3_of 56 = .ok (.ireturn, 1) := dk_172 (dk_at dksX3_of_2 4 rfl rfl)
theorem dX3_of_57 : decode cX3_of 57 = .ok (.aload_n 0, 1) := dk_42 (dk_at dksX3_of_2 5 rfl rfl)
theorem dX3_of_58 : decode cX3_of 58 = .ok (.getfield 13, 3) := dk_180 0 13 (dk_at dksX3_of_2 6 rfl rfl)
theorem dX3_of_61 : decode cX3_of 61 = .ok (.ireturn, 1) := dk_172 (dk_at dksX3_of_2 9 rfl rfl)
theorem dX3_of_62 : decode cX3_of 62 = .ok (.aload_n 0, 1) := dk_42 (dk_at dksX3_of_2 10 rfl rfl)
theorem dX3_of_63 : decode cX3_of 63 = .ok (.getfield 16, 3) := dk_180 0 16 (dk_at dksX3_of_2 11 rfl rfl)
theorem dX3_of_66 : decode cX3_of 66 = .ok (.ireturn, 1) := dk_172 (dk_at dksX3_of_2 14 rfl rfl)
theorem dX3_of_67 : decode cX3_of 67 = .ok (.aload_n 0, 1) := dk_42 (dk_at dksX3_of_2 15 rfl rfl)
theorem dX3_of_68 : decode cX3_of 68 = .ok (.getfield 19, 3) := dk_180 0 19 (dk_at dksX3_of_2 16 rfl rfl)
theorem dX3_of_71 : decode cX3_of 71 = .ok (.ireturn, 1) := dk_172 (dk_at dksX3_of_2 19 rfl rfl)
theorem dX3_of_72 : decode cX3_of 72 = .ok (.aload_n 0, 1) := dk_42 (dk_at dksX3_of_2 20 rfl rfl)
theorem dX3_of_73 : decode cX3_of 73 = .ok (.getfield 22, 3) := dk_180 0 22 (dk_at dksX3_of_2 21 rfl rfl)
theorem dX3_of_76 : decode cX3_of 76 = .ok (.ireturn, 1) := dk_172 (dk_at dksX3_of_3 0 rfl rfl)
theorem dX3_of_77 : decode cX3_of 77 = .ok (.aload_n 0, 1) := dk_42 (dk_at dksX3_of_3 1 rfl rfl)
theorem dX3_of_78 : decode cX3_of 78 = .ok (.getfield 25, 3) := dk_180 0 25 (dk_at dksX3_of_3 2 rfl rfl)
theorem dX3_of_81 : decode cX3_of 81 = .ok (.ireturn, 1) := dk_172 (dk_at dksX3_of_3 5 rfl rfl)
theorem q102 : (Jvm.Cond.initialized "HatsDecide$Look") ∈ lw_all := lw_g (lw_at lw_m1 7 rfl) rfl
theorem q224 : (Jvm.Cond.instantiable "HatsDecide$Look" (6 : Nat)) ∈ lw_all := lw_g (lw_at lw_m1 129 rfl) rfl
theorem q226 : (Jvm.Cond.instanceMethod ({ cls := "HatsDecide$Look", name := "<init>", desc := "()V" } : Jvm.MethodName)) ∈ lw_all := lw_g (lw_at lw_m1 131 rfl) rfl
theorem q227 : (Jvm.Cond.code ({ cls := "HatsDecide$Look", name := "<init>", desc := "()V" } : Jvm.MethodName) prog_7_method_1_code (1 : Nat) (Option.none : Option Jvm.ClassFile.FieldType)) ∈ lw_all := lw_g (lw_at lw_m1 132 rfl) rfl
theorem q228 : (Jvm.Cond.methodLink "HatsDecide$Look" (1 : Nat) ({ cls := "java/lang/Object", name := "<init>", desc := "()V" } : Jvm.MethodName)) ∈ lw_all := lw_g (lw_at lw_m1 133 rfl) rfl
theorem q229 : (Jvm.Cond.fieldLink "HatsDecide$Look" (7 : Nat) "HatsDecide$Look" "hat" "I") ∈ lw_all := lw_g (lw_at lw_m1 134 rfl) rfl
theorem q231 : (Jvm.Cond.fieldLink "HatsDecide$Look" (13 : Nat) "HatsDecide$Look" "head" "I") ∈ lw_all := lw_g (lw_at lw_m1 136 rfl) rfl
theorem q233 : (Jvm.Cond.fieldLink "HatsDecide$Look" (16 : Nat) "HatsDecide$Look" "kind" "I") ∈ lw_all := lw_g (lw_at lw_m1 138 rfl) rfl
theorem q235 : (Jvm.Cond.fieldLink "HatsDecide$Look" (19 : Nat) "HatsDecide$Look" "trade" "I") ∈ lw_all := lw_g (lw_at lw_m1 140 rfl) rfl
theorem q237 : (Jvm.Cond.fieldLink "HatsDecide$Look" (22 : Nat) "HatsDecide$Look" "used" "I") ∈ lw_all := lw_g (lw_at lw_m1 142 rfl) rfl
theorem q239 : (Jvm.Cond.fieldLink "HatsDecide$Look" (25 : Nat) "HatsDecide$Look" "day" "I") ∈ lw_all := lw_g (lw_at lw_m1 144 rfl) rfl
theorem q241 : (Jvm.Cond.lays "HatsDecide$Look" "HatsDecide$Look" "hat" "I") ∈ lw_all := lw_g (lw_at lw_m1 146 rfl) rfl
theorem q242 : (Jvm.Cond.soleField "HatsDecide$Look" "hat") ∈ lw_all := lw_g (lw_at lw_m1 147 rfl) rfl
theorem q243 : (Jvm.Cond.lays "HatsDecide$Look" "HatsDecide$Look" "head" "I") ∈ lw_all := lw_g (lw_at lw_m1 148 rfl) rfl
theorem q244 : (Jvm.Cond.soleField "HatsDecide$Look" "head") ∈ lw_all := lw_g (lw_at lw_m1 149 rfl) rfl
theorem q245 : (Jvm.Cond.lays "HatsDecide$Look" "HatsDecide$Look" "kind" "I") ∈ lw_all := lw_g (lw_at lw_m1 150 rfl) rfl
theorem q246 : (Jvm.Cond.soleField "HatsDecide$Look" "kind") ∈ lw_all := lw_g (lw_at lw_m1 151 rfl) rfl
theorem q247 : (Jvm.Cond.lays "HatsDecide$Look" "HatsDecide$Look" "trade" "I") ∈ lw_all := lw_g (lw_at lw_m1 152 rfl) rfl
theorem q248 : (Jvm.Cond.soleField "HatsDecide$Look" "trade") ∈ lw_all := lw_g (lw_at lw_m1 153 rfl) rfl
theorem q249 : (Jvm.Cond.lays "HatsDecide$Look" "HatsDecide$Look" "used" "I") ∈ lw_all := lw_g (lw_at lw_m1 154 rfl) rfl
theorem q250 : (Jvm.Cond.soleField "HatsDecide$Look" "used") ∈ lw_all := lw_g (lw_at lw_m1 155 rfl) rfl
theorem q251 : (Jvm.Cond.lays "HatsDecide$Look" "HatsDecide$Look" "day" "I") ∈ lw_all := lw_g (lw_at lw_m1 156 rfl) rfl
theorem q252 : (Jvm.Cond.soleField "HatsDecide$Look" "day") ∈ lw_all := lw_g (lw_at lw_m1 157 rfl) rfl
theorem q253 : (Jvm.Cond.superclass "HatsDecide$Look" "java/lang/Object") ∈ lw_all := lw_g (lw_at lw_m1 158 rfl) rfl
theorem q638 : (Jvm.Cond.instanceMethod ({ cls := "HatsDecide$Look", name := "of", desc := "(I)I" } : Jvm.MethodName)) ∈ lw_all := lw_g (lw_at lw_m3 63 rfl) rfl
theorem q639 : (Jvm.Cond.selects "HatsDecide$Look" ({ cls := "HatsDecide$Look", name := "of", desc := "(I)I" } : Jvm.MethodName) ({ cls := "HatsDecide$Look", name := "of", desc := "(I)I" } : Jvm.MethodName)) ∈ lw_all := lw_g (lw_at lw_m3 64 rfl) rfl
theorem q640 : (Jvm.Cond.code ({ cls := "HatsDecide$Look", name := "of", desc := "(I)I" } : Jvm.MethodName) prog_7_method_2_code (2 : Nat) (Option.some Jvm.ClassFile.FieldType.int)) ∈ lw_all := lw_g (lw_at lw_m3 65 rfl) rfl
theorem q1006 : (Jvm.Cond.selects "HatsDecide$Look" ({ cls := "java/lang/Object", name := "getClass", desc := "()Ljava/lang/Class;" } : Jvm.MethodName) ({ cls := "java/lang/Object", name := "getClass", desc := "()Ljava/lang/Class;" } : Jvm.MethodName)) ∈ lw_all := lw_g (lw_at lw_m4 191 rfl) rfl
theorem q2180 : (Jvm.Cond.castable "HatsDecide$Look" "java/lang/Object") ∈ lw_tbl := lw_at lw_m9 165 rfl
theorem in_X3 : ∀ w ∈ wsX30, w ∈ lw_all := lw_in wsX30 [241, 243, 245, 247, 249, 251] (by decide +kernel) (by decide +kernel)

/-! HatsDecide$Trace -/
set_option maxRecDepth 100000
def RX4 : String := "HatsDecide$Trace"
def TX4 : u_T := fun k => match k with
  | 0 => ("HatsDecide$Trace", "bodies", "[I", true)
  | _ => ("HatsDecide$Trace", "count", "I", false)
def tyX4 : Nat → FieldType := fun k => match k with
  | 0 => .array .int
  | _ => .int
abbrev wsX40 : List Cond := u_ws RX4 TX4 2
theorem nmX4 : ∀ a, a < 2 → ∀ b, b < 2 → a ≠ b → (TX4 a).2.1 ≠ (TX4 b).2.1 := by decide +kernel
theorem tyX4_ok : ∀ k, k < 2 → parseFieldDescriptor (TX4 k).2.2.1 = some (tyX4 k) := by decide +kernel
abbrev cX4_init : ByteArray := prog_20_method_1_code
def yX4_init : MethodName := ⟨RX4, "<init>", "()V"⟩
def dkwX4_init_0 : List UInt8 := [42, 183, 0, 3, 42, 16, 20, 188, 10, 181, 0, 9, 177]
abbrev dktX4_init_0 : List UInt8 := dkwX4_init_0 ++ []
theorem dksX4_init_0 : cX4_init.data.toList.drop 0 = dktX4_init_0 := by decide +kernel
theorem dX4_init_0 : decode cX4_init 0 = .ok (.aload_n 0, 1) := dk_42 (dk_at dksX4_init_0 0 rfl rfl)
theorem dX4_init_1 : decode cX4_init 1 = .ok (.invokespecial 3, 3) := dk_183 0 3 (dk_at dksX4_init_0 1 rfl rfl)
theorem dX4_init_4 : decode cX4_init 4 = .ok (.aload_n 0, 1) := dk_42 (dk_at dksX4_init_0 4 rfl rfl)
theorem dX4_init_5 : decode cX4_init 5 = .ok (.bipush 20, 2) := dk_16 20 (dk_at dksX4_init_0 5 rfl rfl)
theorem dX4_init_7 : decode cX4_init 7 = .ok (.newarray .int, 2) := dk_188_10 (dk_at dksX4_init_0 7 rfl rfl)
theorem dX4_init_9 : decode cX4_init 9 = .ok (.putfield 9, 3) := dk_181 0 9 (dk_at dksX4_init_0 9 rfl rfl)
theorem dX4_init_12 : decode cX4_init 12 = .ok (.return_, 1) := dk_177 (dk_at dksX4_init_0 12 rfl rfl)
abbrev cX4_ran : ByteArray := prog_20_method_2_code
def yX4_ran : MethodName := ⟨RX4, "ran", "(I)V"⟩
def dkwX4_ran_1 : List UInt8 := [4, 96, 181, 0, 15, 177]
abbrev dktX4_ran_1 : List UInt8 := dkwX4_ran_1 ++ []
def dkwX4_ran_0 : List UInt8 := [42, 180, 0, 15, 16, 20, 162, 0, 13, 42, 180, 0, 9, 42, 180, 0, 15, 27, 79, 42, 89, 180, 0, 15]
abbrev dktX4_ran_0 : List UInt8 := dkwX4_ran_0 ++ dktX4_ran_1
theorem dksX4_ran_0 : cX4_ran.data.toList.drop 0 = dktX4_ran_0 := by decide +kernel
theorem dksX4_ran_1 : cX4_ran.data.toList.drop 24 = dktX4_ran_1 := dk_seg dksX4_ran_0 24 rfl rfl
theorem dX4_ran_0 : decode cX4_ran 0 = .ok (.aload_n 0, 1) := dk_42 (dk_at dksX4_ran_0 0 rfl rfl)
theorem dX4_ran_1 : decode cX4_ran 1 = .ok (.getfield 15, 3) := dk_180 0 15 (dk_at dksX4_ran_0 1 rfl rfl)
theorem dX4_ran_4 : decode cX4_ran 4 = .ok (.bipush 20, 2) := dk_16 20 (dk_at dksX4_ran_0 4 rfl rfl)
theorem dX4_ran_6 : decode cX4_ran 6 = .ok (.if_icmp .ge 13, 3) := dk_162 0 13 (dk_at dksX4_ran_0 6 rfl rfl)
theorem dX4_ran_9 : decode cX4_ran 9 = .ok (.aload_n 0, 1) := dk_42 (dk_at dksX4_ran_0 9 rfl rfl)
theorem dX4_ran_10 : decode cX4_ran 10 = .ok (.getfield 9, 3) := dk_180 0 9 (dk_at dksX4_ran_0 10 rfl rfl)
theorem dX4_ran_13 : decode cX4_ran 13 = .ok (.aload_n 0, 1) := dk_42 (dk_at dksX4_ran_0 13 rfl rfl)
theorem dX4_ran_14 : decode cX4_ran 14 = .ok (.getfield 15, 3) := dk_180 0 15 (dk_at dksX4_ran_0 14 rfl rfl)
theorem dX4_ran_17 : decode cX4_ran 17 = .ok (.iload_n 1, 1) := dk_27 (dk_at dksX4_ran_0 17 rfl rfl)
theorem dX4_ran_18 : decode cX4_ran 18 = .ok (.iastore, 1) := dk_79 (dk_at dksX4_ran_0 18 rfl rfl)
theorem dX4_ran_19 : decode cX4_ran 19 = .ok (.aload_n 0, 1) := dk_42 (dk_at dksX4_ran_0 19 rfl rfl)
theorem dX4_ran_20 : decode cX4_ran 20 = .ok (.dup, 1) := dk_89 (dk_at dksX4_ran_0 20 rfl rfl)
theorem dX4_ran_21 : decode cX4_ran 21 = .ok (.getfield 15, 3) := dk_180 0 15 (dk_at dksX4_ran_0 21 rfl rfl)
theorem dX4_ran_24 : decode cX4_ran 24 = .ok (.iconst 1, 1) := dk_4 (dk_at dksX4_ran_1 0 rfl rfl)
theorem dX4_ran_25 : decode cX4_ran 25 = .ok (.iadd, 1) := dk_96 (dk_at dksX4_ran_1 1 rfl rfl)
theorem dX4_ran_26 : decode cX4_ran 26 = .ok (.putfield 15, 3) := dk_181 0 15 (dk_at dksX4_ran_1 2 rfl rfl)
theorem dX4_ran_29 : decode cX4_ran 29 = .ok (.return_, 1) := dk_177 (dk_at dksX4_ran_1 5 rfl rfl)
theorem q103 : (Jvm.Cond.initialized "HatsDecide$Trace") ∈ lw_all := lw_g (lw_at lw_m1 8 rfl) rfl
theorem q255 : (Jvm.Cond.instantiable "HatsDecide$Trace" (2 : Nat)) ∈ lw_all := lw_g (lw_at lw_m1 160 rfl) rfl
theorem q257 : (Jvm.Cond.instanceMethod ({ cls := "HatsDecide$Trace", name := "<init>", desc := "()V" } : Jvm.MethodName)) ∈ lw_all := lw_g (lw_at lw_m1 162 rfl) rfl
theorem q258 : (Jvm.Cond.code ({ cls := "HatsDecide$Trace", name := "<init>", desc := "()V" } : Jvm.MethodName) prog_20_method_1_code (1 : Nat) (Option.none : Option Jvm.ClassFile.FieldType)) ∈ lw_all := lw_g (lw_at lw_m1 163 rfl) rfl
theorem q259 : (Jvm.Cond.methodLink "HatsDecide$Trace" (3 : Nat) ({ cls := "java/lang/Object", name := "<init>", desc := "()V" } : Jvm.MethodName)) ∈ lw_all := lw_g (lw_at lw_m1 164 rfl) rfl
theorem q260 : (Jvm.Cond.fieldLink "HatsDecide$Trace" (9 : Nat) "HatsDecide$Trace" "bodies" "[I") ∈ lw_all := lw_g (lw_at lw_m1 165 rfl) rfl
theorem q262 : (Jvm.Cond.fieldLink "HatsDecide$Trace" (15 : Nat) "HatsDecide$Trace" "count" "I") ∈ lw_all := lw_g (lw_at lw_m1 167 rfl) rfl
theorem q264 : (Jvm.Cond.laysFinal "HatsDecide$Trace" "HatsDecide$Trace" "bodies" "[I") ∈ lw_all := lw_g (lw_at lw_m1 169 rfl) rfl
theorem q265 : (Jvm.Cond.soleField "HatsDecide$Trace" "bodies") ∈ lw_all := lw_g (lw_at lw_m1 170 rfl) rfl
theorem q266 : (Jvm.Cond.lays "HatsDecide$Trace" "HatsDecide$Trace" "count" "I") ∈ lw_all := lw_g (lw_at lw_m1 171 rfl) rfl
theorem q267 : (Jvm.Cond.soleField "HatsDecide$Trace" "count") ∈ lw_all := lw_g (lw_at lw_m1 172 rfl) rfl
theorem q268 : (Jvm.Cond.superclass "HatsDecide$Trace" "java/lang/Object") ∈ lw_all := lw_g (lw_at lw_m1 173 rfl) rfl
theorem q1017 : (Jvm.Cond.selects "HatsDecide$Trace" ({ cls := "java/lang/Object", name := "getClass", desc := "()Ljava/lang/Class;" } : Jvm.MethodName) ({ cls := "java/lang/Object", name := "getClass", desc := "()Ljava/lang/Class;" } : Jvm.MethodName)) ∈ lw_all := lw_g (lw_at lw_m4 202 rfl) rfl
theorem q1320 : (Jvm.Cond.instanceMethod ({ cls := "HatsDecide$Trace", name := "ran", desc := "(I)V" } : Jvm.MethodName)) ∈ lw_all := lw_g (lw_at lw_m6 25 rfl) rfl
theorem q1321 : (Jvm.Cond.selects "HatsDecide$Trace" ({ cls := "HatsDecide$Trace", name := "ran", desc := "(I)V" } : Jvm.MethodName) ({ cls := "HatsDecide$Trace", name := "ran", desc := "(I)V" } : Jvm.MethodName)) ∈ lw_all := lw_g (lw_at lw_m6 26 rfl) rfl
theorem q1322 : (Jvm.Cond.code ({ cls := "HatsDecide$Trace", name := "ran", desc := "(I)V" } : Jvm.MethodName) prog_20_method_2_code (2 : Nat) (Option.none : Option Jvm.ClassFile.FieldType)) ∈ lw_all := lw_g (lw_at lw_m6 27 rfl) rfl
theorem q2181 : (Jvm.Cond.castable "HatsDecide$Trace" "java/lang/Object") ∈ lw_tbl := lw_at lw_m9 166 rfl
theorem in_X4 : ∀ w ∈ wsX40, w ∈ lw_all := lw_in wsX40 [264, 266] (by decide +kernel) (by decide +kernel)

/-! HatsDecide$Tape -/
set_option maxRecDepth 100000
def RX5 : String := "HatsDecide$Tape"
def TX5 : u_T := fun k => match k with
  | _ => ("HatsDecide$Tape", "row", "Ljava/lang/Object;", false)
def tyX5 : Nat → FieldType := fun k => match k with
  | _ => .object "java/lang/Object"
abbrev wsX50 : List Cond := u_ws RX5 TX5 1
theorem nmX5 : ∀ a, a < 1 → ∀ b, b < 1 → a ≠ b → (TX5 a).2.1 ≠ (TX5 b).2.1 := by decide +kernel
theorem tyX5_ok : ∀ k, k < 1 → parseFieldDescriptor (TX5 k).2.2.1 = some (tyX5 k) := by decide +kernel
abbrev cX5_init : ByteArray := prog_13_method_1_code
def yX5_init : MethodName := ⟨RX5, "<init>", "()V"⟩
theorem dX5_init_0 : decode cX5_init 0 = .ok (.aload_n 0, 1) := by decide +kernel
theorem dX5_init_1 : decode cX5_init 1 = .ok (.invokespecial 3, 3) := by decide +kernel
theorem dX5_init_4 : decode cX5_init 4 = .ok (.return_, 1) := by decide +kernel
abbrev cX5_has : ByteArray := prog_13_method_3_code
def yX5_has : MethodName := ⟨RX5, "has", "(I)V"⟩
def dkwX5_has_1 : List UInt8 := [100, 184, 0, 34, 154, 0, 13, 187, 0, 25, 89, 16, 243, 183, 0, 27, 191, 177]
abbrev dktX5_has_1 : List UInt8 := dkwX5_has_1 ++ []
def dkwX5_has_0 : List UInt8 := [42, 180, 0, 9, 199, 0, 13, 187, 0, 25, 89, 16, 245, 183, 0, 27, 191, 27, 3, 42, 182, 0, 30, 4]
abbrev dktX5_has_0 : List UInt8 := dkwX5_has_0 ++ dktX5_has_1
theorem dksX5_has_0 : cX5_has.data.toList.drop 0 = dktX5_has_0 := by decide +kernel
theorem dksX5_has_1 : cX5_has.data.toList.drop 24 = dktX5_has_1 := dk_seg dksX5_has_0 24 rfl rfl
theorem dX5_has_0 : decode cX5_has 0 = .ok (.aload_n 0, 1) := dk_42 (dk_at dksX5_has_0 0 rfl rfl)
theorem dX5_has_1 : decode cX5_has 1 = .ok (.getfield 9, 3) := dk_180 0 9 (dk_at dksX5_has_0 1 rfl rfl)
theorem dX5_has_4 : decode cX5_has 4 = .ok (.ifnonnull 13, 3) := dk_199 0 13 (dk_at dksX5_has_0 4 rfl rfl)
theorem dX5_has_7 : decode cX5_has 7 = .ok (.new 25, 3) := dk_187 0 25 (dk_at dksX5_has_0 7 rfl rfl)
theorem dX5_has_10 : decode cX5_has 10 = .ok (.dup, 1) := dk_89 (dk_at dksX5_has_0 10 rfl rfl)
theorem dX5_has_11 : decode cX5_has 11 = .ok (.bipush (-11), 2) := dk_16 245 (dk_at dksX5_has_0 11 rfl rfl)
theorem dX5_has_13 : decode cX5_has 13 = .ok (.invokespecial 27, 3) := dk_183 0 27 (dk_at dksX5_has_0 13 rfl rfl)
theorem dX5_has_16 : decode cX5_has 16 = .ok (.athrow, 1) := dk_191 (dk_at dksX5_has_0 16 rfl rfl)
theorem dX5_has_17 : decode cX5_has 17 = .ok (.iload_n 1, 1) := dk_27 (dk_at dksX5_has_0 17 rfl rfl)
theorem dX5_has_18 : decode cX5_has 18 = .ok (.iconst 0, 1) := dk_3 (dk_at dksX5_has_0 18 rfl rfl)
theorem dX5_has_19 : decode cX5_has 19 = .ok (.aload_n 0, 1) := dk_42 (dk_at dksX5_has_0 19 rfl rfl)
theorem dX5_has_20 : decode cX5_has 20 = .ok (.invokevirtual 30, 3) := dk_182 0 30 (dk_at dksX5_has_0 20 rfl rfl)
theorem dX5_has_23 : decode cX5_has 23 = .ok (.iconst 1, 1) := dk_4 (dk_at dksX5_has_0 23 rfl rfl)
theorem dX5_has_24 : decode cX5_has 24 = .ok (.isub, 1) := dk_100 (dk_at dksX5_has_1 0 rfl rfl)
theorem dX5_has_25 : decode cX5_has 25 = .ok (.invokestatic 34, 3) := dk_184 0 34 (dk_at dksX5_has_1 1 rfl rfl)
theorem dX5_has_28 : decode cX5_has 28 = .ok (.ifCond .ne 13, 3) := dk_154 0 13 (dk_at dksX5_has_1 4 rfl rfl)
theorem dX5_has_31 : decode cX5_has 31 = .ok (.new 25, 3) := dk_187 0 25 (dk_at dksX5_has_1 7 rfl rfl)
theorem dX5_has_34 : decode cX5_has 34 = .ok (.dup, 1) := dk_89 (dk_at dksX5_has_1 10 rfl rfl)
theorem dX5_has_35 : decode cX5_has 35 = .ok (.bipush (-13), 2) := dk_16 243 (dk_at dksX5_has_1 11 rfl rfl)
theorem dX5_has_37 : decode cX5_has 37 = .ok (.invokespecial 27, 3) := dk_183 0 27 (dk_at dksX5_has_1 13 rfl rfl)
theorem dX5_has_40 : decode cX5_has 40 = .ok (.athrow, 1) := dk_191 (dk_at dksX5_has_1 16 rfl rfl)
theorem dX5_has_41 : decode cX5_has 41 = .ok (.return_, 1) := dk_177 (dk_at dksX5_has_1 17 rfl rfl)
abbrev cX5_size : ByteArray := prog_13_method_2_code
def yX5_size : MethodName := ⟨RX5, "size", "()I"⟩
def dkwX5_size_3 : List UInt8 := [153, 0, 13, 44, 192, 0, 21, 76, 43, 190, 167, 0, 11, 42, 180, 0, 9, 192, 0, 23, 190, 172]
abbrev dktX5_size_3 : List UInt8 := dkwX5_size_3 ++ []
def dkwX5_size_2 : List UInt8 := [193, 0, 19, 153, 0, 11, 44, 192, 0, 19, 76, 43, 190, 172, 42, 180, 0, 9, 77, 44, 193, 0, 21]
abbrev dktX5_size_2 : List UInt8 := dkwX5_size_2 ++ dktX5_size_3
def dkwX5_size_1 : List UInt8 := [77, 44, 193, 0, 17, 153, 0, 11, 44, 192, 0, 17, 76, 43, 190, 172, 42, 180, 0, 9, 77, 44]
abbrev dktX5_size_1 : List UInt8 := dkwX5_size_1 ++ dktX5_size_2
def dkwX5_size_0 : List UInt8 := [42, 180, 0, 9, 77, 44, 193, 0, 15, 153, 0, 11, 44, 192, 0, 15, 76, 43, 190, 172, 42, 180, 0, 9]
abbrev dktX5_size_0 : List UInt8 := dkwX5_size_0 ++ dktX5_size_1
theorem dksX5_size_0 : cX5_size.data.toList.drop 0 = dktX5_size_0 := by decide +kernel
theorem dksX5_size_1 : cX5_size.data.toList.drop 24 = dktX5_size_1 := dk_seg dksX5_size_0 24 rfl rfl
theorem dksX5_size_2 : cX5_size.data.toList.drop 46 = dktX5_size_2 := dk_seg dksX5_size_1 22 rfl rfl
theorem dksX5_size_3 : cX5_size.data.toList.drop 69 = dktX5_size_3 := dk_seg dksX5_size_2 23 rfl rfl
theorem dX5_size_0 : decode cX5_size 0 = .ok (.aload_n 0, 1) := dk_42 (dk_at dksX5_size_0 0 rfl rfl)
theorem dX5_size_1 : decode cX5_size 1 = .ok (.getfield 9, 3) := dk_180 0 9 (dk_at dksX5_size_0 1 rfl rfl)
theorem dX5_size_4 : decode cX5_size 4 = .ok (.astore_n 2, 1) := dk_77 (dk_at dksX5_size_0 4 rfl rfl)
theorem dX5_size_5 : decode cX5_size 5 = .ok (.aload_n 2, 1) := dk_44 (dk_at dksX5_size_0 5 rfl rfl)
theorem dX5_size_6 : decode cX5_size 6 = .ok (.instanceof 15, 3) := dk_193 0 15 (dk_at dksX5_size_0 6 rfl rfl)
theorem dX5_size_9 : decode cX5_size 9 = .ok (.ifCond .eq 11, 3) := dk_153 0 11 (dk_at dksX5_size_0 9 rfl rfl)
theorem dX5_size_12 : decode cX5_size 12 = .ok (.aload_n 2, 1) := dk_44 (dk_at dksX5_size_0 12 rfl rfl)
theorem dX5_size_13 : decode cX5_size 13 = .ok (.checkcast 15, 3) := dk_192 0 15 (dk_at dksX5_size_0 13 rfl rfl)
theorem dX5_size_16 : decode cX5_size 16 = .ok (.astore_n 1, 1) := dk_76 (dk_at dksX5_size_0 16 rfl rfl)
theorem dX5_size_17 : decode cX5_size 17 = .ok (.aload_n 1, 1) := dk_43 (dk_at dksX5_size_0 17 rfl rfl)
theorem dX5_size_18 : decode cX5_size 18 = .ok (.arraylength, 1) := dk_190 (dk_at dksX5_size_0 18 rfl rfl)
theorem dX5_size_19 : decode cX5_size 19 = .ok (.ireturn, 1) := dk_172 (dk_at dksX5_size_0 19 rfl rfl)
theorem dX5_size_20 : decode cX5_size 20 = .ok (.aload_n 0, 1) := dk_42 (dk_at dksX5_size_0 20 rfl rfl)
theorem dX5_size_21 : decode cX5_size 21 = .ok (.getfield 9, 3) := dk_180 0 9 (dk_at dksX5_size_0 21 rfl rfl)
theorem dX5_size_24 : decode cX5_size 24 = .ok (.astore_n 2, 1) := dk_77 (dk_at dksX5_size_1 0 rfl rfl)
theorem dX5_size_25 : decode cX5_size 25 = .ok (.aload_n 2, 1) := dk_44 (dk_at dksX5_size_1 1 rfl rfl)
theorem dX5_size_26 : decode cX5_size 26 = .ok (.instanceof 17, 3) := dk_193 0 17 (dk_at dksX5_size_1 2 rfl rfl)
theorem dX5_size_29 : decode cX5_size 29 = .ok (.ifCond .eq 11, 3) := dk_153 0 11 (dk_at dksX5_size_1 5 rfl rfl)
theorem dX5_size_32 : decode cX5_size 32 = .ok (.aload_n 2, 1) := dk_44 (dk_at dksX5_size_1 8 rfl rfl)
theorem dX5_size_33 : decode cX5_size 33 = .ok (.checkcast 17, 3) := dk_192 0 17 (dk_at dksX5_size_1 9 rfl rfl)
theorem dX5_size_36 : decode cX5_size 36 = .ok (.astore_n 1, 1) := dk_76 (dk_at dksX5_size_1 12 rfl rfl)
theorem dX5_size_37 : decode cX5_size 37 = .ok (.aload_n 1, 1) := dk_43 (dk_at dksX5_size_1 13 rfl rfl)
theorem dX5_size_38 : decode cX5_size 38 = .ok (.arraylength, 1) := dk_190 (dk_at dksX5_size_1 14 rfl rfl)
theorem dX5_size_39 : decode cX5_size 39 = .ok (.ireturn, 1) := dk_172 (dk_at dksX5_size_1 15 rfl rfl)
theorem dX5_size_40 : decode cX5_size 40 = .ok (.aload_n 0, 1) := dk_42 (dk_at dksX5_size_1 16 rfl rfl)
theorem dX5_size_41 : decode cX5_size 41 = .ok (.getfield 9, 3) := dk_180 0 9 (dk_at dksX5_size_1 17 rfl rfl)
theorem dX5_size_44 : decode cX5_size 44 = .ok (.astore_n 2, 1) := dk_77 (dk_at dksX5_size_1 20 rfl rfl)
theorem dX5_size_45 : decode cX5_size 45 = .ok (.aload_n 2, 1) := dk_44 (dk_at dksX5_size_1 21 rfl rfl)
theorem dX5_size_46 : decode cX5_size 46 = .ok (.instanceof 19, 3) := dk_193 0 19 (dk_at dksX5_size_2 0 rfl rfl)
theorem dX5_size_49 : decode cX5_size 49 = .ok (.ifCond .eq 11, 3) := dk_153 0 11 (dk_at dksX5_size_2 3 rfl rfl)
theorem dX5_size_52 : decode cX5_size 52 = .ok (.aload_n 2, 1) := dk_44 (dk_at dksX5_size_2 6 rfl rfl)
theorem dX5_size_53 : decode cX5_size 53 = .ok (.checkcast 19, 3) := dk_192 0 19 (dk_at dksX5_size_2 7 rfl rfl)
theorem dX5_size_56 : decode cX5_size 56 = .ok (.astore_n 1, 1) := dk_76 (dk_at dksX5_size_2 10 rfl rfl)
theorem dX5_size_57 : decode cX5_size 57 = .ok (.aload_n 1, 1) := dk_43 (dk_at dksX5_size_2 11 rfl rfl)
theorem dX5_size_58 : decode cX5_size 58 = .ok (.arraylength, 1) := dk_190 (dk_at dksX5_size_2 12 rfl rfl)
theorem dX5_size_59 : decode cX5_size 59 = .ok (.ireturn, 1) := dk_172 (dk_at dksX5_size_2 13 rfl rfl)
theorem dX5_size_60 : decode cX5_size 60 = .ok (.aload_n 0, 1) := dk_42 (dk_at dksX5_size_2 14 rfl rfl)
theorem dX5_size_61 : decode cX5_size 61 = .ok (.getfield 9, 3) := dk_180 0 9 (dk_at dksX5_size_2 15 rfl rfl)
theorem dX5_size_64 : decode cX5_size 64 = .ok (.astore_n 2, 1) := dk_77 (dk_at dksX5_size_2 18 rfl rfl)
theorem dX5_size_65 : decode cX5_size 65 = .ok (.aload_n 2, 1) := dk_44 (dk_at dksX5_size_2 19 rfl rfl)
theorem dX5_size_66 : decode cX5_size 66 = .ok (.instanceof 21, 3) := dk_193 0 21 (dk_at dksX5_size_2 20 rfl rfl)
theorem dX5_size_69 : decode cX5_size 69 = .ok (.ifCond .eq 13, 3) := dk_153 0 13 (dk_at dksX5_size_3 0 rfl rfl)
theorem dX5_size_72 : decode cX5_size 72 = .ok (.aload_n 2, 1) := dk_44 (dk_at dksX5_size_3 3 rfl rfl)
theorem dX5_size_73 : decode cX5_size 73 = .ok (.checkcast 21, 3) := dk_192 0 21 (dk_at dksX5_size_3 4 rfl rfl)
theorem dX5_size_76 : decode cX5_size 76 = .ok (.astore_n 1, 1) := dk_76 (dk_at dksX5_size_3 7 rfl rfl)
theorem dX5_size_77 : decode cX5_size 77 = .ok (.aload_n 1, 1) := dk_43 (dk_at dksX5_size_3 8 rfl rfl)
theorem dX5_size_78 : decode cX5_size 78 = .ok (.arraylength, 1) := dk_190 (dk_at dksX5_size_3 9 rfl rfl)
theorem dX5_size_79 : decode cX5_size 79 = .ok (.goto 11, 3) := dk_167 0 11 (dk_at dksX5_size_3 10 rfl rfl)
theorem dX5_size_82 : decode cX5_size 82 = .ok (.aload_n 0, 1) := dk_42 (dk_at dksX5_size_3 13 rfl rfl)
theorem dX5_size_83 : decode cX5_size 83 = .ok (.getfield 9, 3) := dk_180 0 9 (dk_at dksX5_size_3 14 rfl rfl)
theorem dX5_size_86 : decode cX5_size 86 = .ok (.checkcast 23, 3) := dk_192 0 23 (dk_at dksX5_size_3 17 rfl rfl)
theorem dX5_size_89 : decode cX5_size 89 = .ok (.arraylength, 1) := dk_190 (dk_at dksX5_size_3 20 rfl rfl)
theorem dX5_size_90 : decode cX5_size 90 = .ok (.ireturn, 1) := dk_172 (dk_at dksX5_size_3 21 rfl rfl)
theorem q104 : (Jvm.Cond.initialized "HatsDecide$Tape") ∈ lw_all := lw_g (lw_at lw_m1 9 rfl) rfl
theorem q271 : (Jvm.Cond.instantiable "HatsDecide$Tape" (1 : Nat)) ∈ lw_all := lw_g (lw_at lw_m1 176 rfl) rfl
theorem q273 : (Jvm.Cond.instanceMethod ({ cls := "HatsDecide$Tape", name := "<init>", desc := "()V" } : Jvm.MethodName)) ∈ lw_all := lw_g (lw_at lw_m1 178 rfl) rfl
theorem q274 : (Jvm.Cond.code ({ cls := "HatsDecide$Tape", name := "<init>", desc := "()V" } : Jvm.MethodName) prog_13_method_1_code (1 : Nat) (Option.none : Option Jvm.ClassFile.FieldType)) ∈ lw_all := lw_g (lw_at lw_m1 179 rfl) rfl
theorem q275 : (Jvm.Cond.methodLink "HatsDecide$Tape" (3 : Nat) ({ cls := "java/lang/Object", name := "<init>", desc := "()V" } : Jvm.MethodName)) ∈ lw_all := lw_g (lw_at lw_m1 180 rfl) rfl
theorem q276 : (Jvm.Cond.fieldLink "HatsDecide$Tape" (9 : Nat) "HatsDecide$Tape" "row" "Ljava/lang/Object;") ∈ lw_all := lw_g (lw_at lw_m1 181 rfl) rfl
theorem q278 : (Jvm.Cond.lays "HatsDecide$Tape" "HatsDecide$Tape" "row" "Ljava/lang/Object;") ∈ lw_all := lw_g (lw_at lw_m1 183 rfl) rfl
theorem q279 : (Jvm.Cond.soleField "HatsDecide$Tape" "row") ∈ lw_all := lw_g (lw_at lw_m1 184 rfl) rfl
theorem q280 : (Jvm.Cond.superclass "HatsDecide$Tape" "java/lang/Object") ∈ lw_all := lw_g (lw_at lw_m1 185 rfl) rfl
theorem q1012 : (Jvm.Cond.selects "HatsDecide$Tape" ({ cls := "java/lang/Object", name := "getClass", desc := "()Ljava/lang/Class;" } : Jvm.MethodName) ({ cls := "java/lang/Object", name := "getClass", desc := "()Ljava/lang/Class;" } : Jvm.MethodName)) ∈ lw_all := lw_g (lw_at lw_m4 197 rfl) rfl
theorem q1434 : (Jvm.Cond.privateMethod ({ cls := "HatsDecide$Tape", name := "has", desc := "(I)V" } : Jvm.MethodName)) ∈ lw_tbl := lw_at lw_m6 139 rfl
theorem q1435 : (Jvm.Cond.instanceMethod ({ cls := "HatsDecide$Tape", name := "has", desc := "(I)V" } : Jvm.MethodName)) ∈ lw_all := lw_g (lw_at lw_m6 140 rfl) rfl
theorem q1436 : (Jvm.Cond.code ({ cls := "HatsDecide$Tape", name := "has", desc := "(I)V" } : Jvm.MethodName) prog_13_method_3_code (2 : Nat) (Option.none : Option Jvm.ClassFile.FieldType)) ∈ lw_all := lw_g (lw_at lw_m6 141 rfl) rfl
theorem q1437 : (Jvm.Cond.classLink "HatsDecide$Tape" (25 : Nat) "HatsDecide$Off") ∈ lw_all := lw_g (lw_at lw_m6 142 rfl) rfl
theorem q1438 : (Jvm.Cond.methodLink "HatsDecide$Tape" (27 : Nat) ({ cls := "HatsDecide$Off", name := "<init>", desc := "(I)V" } : Jvm.MethodName)) ∈ lw_all := lw_g (lw_at lw_m6 143 rfl) rfl
theorem q1439 : (Jvm.Cond.methodLink "HatsDecide$Tape" (30 : Nat) ({ cls := "HatsDecide$Tape", name := "size", desc := "()I" } : Jvm.MethodName)) ∈ lw_all := lw_g (lw_at lw_m6 144 rfl) rfl
theorem q1440 : (Jvm.Cond.privateMethod ({ cls := "HatsDecide$Tape", name := "size", desc := "()I" } : Jvm.MethodName)) ∈ lw_tbl := lw_at lw_m6 145 rfl
theorem q1441 : (Jvm.Cond.instanceMethod ({ cls := "HatsDecide$Tape", name := "size", desc := "()I" } : Jvm.MethodName)) ∈ lw_all := lw_g (lw_at lw_m6 146 rfl) rfl
theorem q1442 : (Jvm.Cond.code ({ cls := "HatsDecide$Tape", name := "size", desc := "()I" } : Jvm.MethodName) prog_13_method_2_code (3 : Nat) (Option.some Jvm.ClassFile.FieldType.int)) ∈ lw_all := lw_g (lw_at lw_m6 147 rfl) rfl
theorem q1443 : (Jvm.Cond.classLink "HatsDecide$Tape" (15 : Nat) "[B") ∈ lw_all := lw_g (lw_at lw_m6 148 rfl) rfl
theorem q1444 : (Jvm.Cond.classLink "HatsDecide$Tape" (17 : Nat) "[S") ∈ lw_all := lw_g (lw_at lw_m6 149 rfl) rfl
theorem q1445 : (Jvm.Cond.classLink "HatsDecide$Tape" (19 : Nat) "[I") ∈ lw_all := lw_g (lw_at lw_m6 150 rfl) rfl
theorem q1446 : (Jvm.Cond.classLink "HatsDecide$Tape" (21 : Nat) "[J") ∈ lw_all := lw_g (lw_at lw_m6 151 rfl) rfl
theorem q1447 : (Jvm.Cond.classLink "HatsDecide$Tape" (23 : Nat) "[Z") ∈ lw_all := lw_g (lw_at lw_m6 152 rfl) rfl
theorem q1448 : (Jvm.Cond.methodLinkNest "HatsDecide$Tape" (34 : Nat) ({ cls := "HatsDecide", name := "in", desc := "(III)Z" } : Jvm.MethodName) "HatsDecide") ∈ lw_tbl := lw_at lw_m6 153 rfl
theorem q2175 : (Jvm.Cond.castable "HatsDecide$Tape" "java/lang/Object") ∈ lw_tbl := lw_at lw_m9 160 rfl
theorem in_X5 : ∀ w ∈ wsX50, w ∈ lw_all := lw_in wsX50 [278] (by decide +kernel) (by decide +kernel)

/-! HatsDecide$Hat -/
set_option maxRecDepth 100000
def RX7 : String := "HatsDecide$Hat"
def TX7 : u_T := fun k => match k with
  | 0 => ("HatsDecide$Hat", "number", "I", true)
  | 1 => ("HatsDecide$Hat", "v", "I", true)
  | 2 => ("HatsDecide$Hat", "size", "I", true)
  | 3 => ("HatsDecide$Hat", "trade", "I", true)
  | _ => ("HatsDecide$Hat", "this$0", "LHatsDecide;", true)
def tyX7 : Nat → FieldType := fun k => match k with
  | 0 => .int
  | 1 => .int
  | 2 => .int
  | 3 => .int
  | _ => .object "HatsDecide"
abbrev wsX70 : List Cond := u_ws RX7 TX7 5
theorem nmX7 : ∀ a, a < 5 → ∀ b, b < 5 → a ≠ b → (TX7 a).2.1 ≠ (TX7 b).2.1 := by decide +kernel
theorem tyX7_ok : ∀ k, k < 5 → parseFieldDescriptor (TX7 k).2.2.1 = some (tyX7 k) := by decide +kernel
abbrev cX7_init : ByteArray := prog_6_method_1_code
def yX7_init : MethodName := ⟨RX7, "<init>", "(LHatsDecide;IIII)V"⟩
def dkwX7_init_1 : List UInt8 := [181, 0, 20, 42, 21, 5, 181, 0, 23, 177]
abbrev dktX7_init_1 : List UInt8 := dkwX7_init_1 ++ []
def dkwX7_init_0 : List UInt8 := [42, 43, 181, 0, 1, 42, 183, 0, 7, 42, 28, 181, 0, 13, 42, 29, 181, 0, 17, 42, 21, 4]
abbrev dktX7_init_0 : List UInt8 := dkwX7_init_0 ++ dktX7_init_1
theorem dksX7_init_0 : cX7_init.data.toList.drop 0 = dktX7_init_0 := by decide +kernel
theorem dksX7_init_1 : cX7_init.data.toList.drop 22 = dktX7_init_1 := dk_seg dksX7_init_0 22 rfl rfl
theorem dX7_init_0 : decode cX7_init 0 = .ok (.aload_n 0, 1) := dk_42 (dk_at dksX7_init_0 0 rfl rfl)
theorem dX7_init_1 : decode cX7_init 1 = .ok (.aload_n 1, 1) := dk_43 (dk_at dksX7_init_0 1 rfl rfl)
theorem dX7_init_2 : decode cX7_init 2 = .ok (.putfield 1, 3) := dk_181 0 1 (dk_at dksX7_init_0 2 rfl rfl)
theorem dX7_init_5 : decode cX7_init 5 = .ok (.aload_n 0, 1) := dk_42 (dk_at dksX7_init_0 5 rfl rfl)
theorem dX7_init_6 : decode cX7_init 6 = .ok (.invokespecial 7, 3) := dk_183 0 7 (dk_at dksX7_init_0 6 rfl rfl)
theorem dX7_init_9 : decode cX7_init 9 = .ok (.aload_n 0, 1) := dk_42 (dk_at dksX7_init_0 9 rfl rfl)
theorem dX7_init_10 : decode cX7_init 10 = .ok (.iload_n 2, 1) := dk_28 (dk_at dksX7_init_0 10 rfl rfl)
theorem dX7_init_11 : decode cX7_init 11 = .ok (.putfield 13, 3) := dk_181 0 13 (dk_at dksX7_init_0 11 rfl rfl)
theorem dX7_init_14 : decode cX7_init 14 = .ok (.aload_n 0, 1) := dk_42 (dk_at dksX7_init_0 14 rfl rfl)
theorem dX7_init_15 : decode cX7_init 15 = .ok (.iload_n 3, 1) := dk_29 (dk_at dksX7_init_0 15 rfl rfl)
theorem dX7_init_16 : decode cX7_init 16 = .ok (.putfield 17, 3) := dk_181 0 17 (dk_at dksX7_init_0 16 rfl rfl)
theorem dX7_init_19 : decode cX7_init 19 = .ok (.aload_n 0, 1) := dk_42 (dk_at dksX7_init_0 19 rfl rfl)
theorem dX7_init_20 : decode cX7_init 20 = .ok (.iload 4, 2) := dk_21 4 (dk_at dksX7_init_0 20 rfl rfl)
theorem dX7_init_22 : decode cX7_init 22 = .ok (.putfield 20, 3) := dk_181 0 20 (dk_at dksX7_init_1 0 rfl rfl)
theorem dX7_init_25 : decode cX7_init 25 = .ok (.aload_n 0, 1) := dk_42 (dk_at dksX7_init_1 3 rfl rfl)
theorem dX7_init_26 : decode cX7_init 26 = .ok (.iload 5, 2) := dk_21 5 (dk_at dksX7_init_1 4 rfl rfl)
theorem dX7_init_28 : decode cX7_init 28 = .ok (.putfield 23, 3) := dk_181 0 23 (dk_at dksX7_init_1 6 rfl rfl)
theorem dX7_init_31 : decode cX7_init 31 = .ok (.return_, 1) := dk_177 (dk_at dksX7_init_1 9 rfl rfl)
abbrev cX7_kind : ByteArray := prog_6_method_2_code
def yX7_kind : MethodName := ⟨RX7, "kind", "()I"⟩
theorem dX7_kind_0 : decode cX7_kind 0 = .ok (.iconst 0, 1) := by decide +kernel
theorem dX7_kind_1 : decode cX7_kind 1 = .ok (.ireturn, 1) := by decide +kernel
abbrev cX7_deed : ByteArray := prog_6_method_3_code
def yX7_deed : MethodName := ⟨RX7, "deed", "(IIII)I"⟩
def dkwX7_deed_0 : List UInt8 := [3, 42, 180, 0, 1, 180, 0, 26, 42, 180, 0, 13, 46, 27, 96, 184, 0, 32, 172]
abbrev dktX7_deed_0 : List UInt8 := dkwX7_deed_0 ++ []
theorem dksX7_deed_0 : cX7_deed.data.toList.drop 0 = dktX7_deed_0 := by decide +kernel
theorem dX7_deed_0 : decode cX7_deed 0 = .ok (.iconst 0, 1) := dk_3 (dk_at dksX7_deed_0 0 rfl rfl)
theorem dX7_deed_1 : decode cX7_deed 1 = .ok (.aload_n 0, 1) := dk_42 (dk_at dksX7_deed_0 1 rfl rfl)
theorem dX7_deed_2 : decode cX7_deed 2 = .ok (.getfield 1, 3) := dk_180 0 1 (dk_at dksX7_deed_0 2 rfl rfl)
theorem dX7_deed_5 : decode cX7_deed 5 = .ok (.getfield 26, 3) := dk_180 0 26 (dk_at dksX7_deed_0 5 rfl rfl)
theorem dX7_deed_8 : decode cX7_deed 8 = .ok (.aload_n 0, 1) := dk_42 (dk_at dksX7_deed_0 8 rfl rfl)
theorem dX7_deed_9 : decode cX7_deed 9 = .ok (.getfield 13, 3) := dk_180 0 13 (dk_at dksX7_deed_0 9 rfl rfl)
theorem dX7_deed_12 : decode cX7_deed 12 = .ok (.iaload, 1) := dk_46 (dk_at dksX7_deed_0 12 rfl rfl)
theorem dX7_deed_13 : decode cX7_deed 13 = .ok (.iload_n 1, 1) := dk_27 (dk_at dksX7_deed_0 13 rfl rfl)
theorem dX7_deed_14 : decode cX7_deed 14 = .ok (.iadd, 1) := dk_96 (dk_at dksX7_deed_0 14 rfl rfl)
theorem dX7_deed_15 : decode cX7_deed 15 = .ok (.invokestatic 32, 3) := dk_184 0 32 (dk_at dksX7_deed_0 15 rfl rfl)
theorem dX7_deed_18 : decode cX7_deed 18 = .ok (.ireturn, 1) := dk_172 (dk_at dksX7_deed_0 18 rfl rfl)
abbrev cX7_sits : ByteArray := prog_6_method_4_code
def yX7_sits : MethodName := ⟨RX7, "sits", "(I)I"⟩
def dkwX7_sits_0 : List UInt8 := [42, 180, 0, 1, 180, 0, 38, 16, 10, 182, 0, 42, 27, 42, 180, 0, 13, 96, 172]
abbrev dktX7_sits_0 : List UInt8 := dkwX7_sits_0 ++ []
theorem dksX7_sits_0 : cX7_sits.data.toList.drop 0 = dktX7_sits_0 := by decide +kernel
theorem dX7_sits_0 : decode cX7_sits 0 = .ok (.aload_n 0, 1) := dk_42 (dk_at dksX7_sits_0 0 rfl rfl)
theorem dX7_sits_1 : decode cX7_sits 1 = .ok (.getfield 1, 3) := dk_180 0 1 (dk_at dksX7_sits_0 1 rfl rfl)
theorem dX7_sits_4 : decode cX7_sits 4 = .ok (.getfield 38, 3) := dk_180 0 38 (dk_at dksX7_sits_0 4 rfl rfl)
theorem dX7_sits_7 : decode cX7_sits 7 = .ok (.bipush 10, 2) := dk_16 10 (dk_at dksX7_sits_0 7 rfl rfl)
theorem dX7_sits_9 : decode cX7_sits 9 = .ok (.invokevirtual 42, 3) := dk_182 0 42 (dk_at dksX7_sits_0 9 rfl rfl)
theorem dX7_sits_12 : decode cX7_sits 12 = .ok (.iload_n 1, 1) := dk_27 (dk_at dksX7_sits_0 12 rfl rfl)
theorem dX7_sits_13 : decode cX7_sits 13 = .ok (.aload_n 0, 1) := dk_42 (dk_at dksX7_sits_0 13 rfl rfl)
theorem dX7_sits_14 : decode cX7_sits 14 = .ok (.getfield 13, 3) := dk_180 0 13 (dk_at dksX7_sits_0 14 rfl rfl)
theorem dX7_sits_17 : decode cX7_sits 17 = .ok (.iadd, 1) := dk_96 (dk_at dksX7_sits_0 17 rfl rfl)
theorem dX7_sits_18 : decode cX7_sits 18 = .ok (.ireturn, 1) := dk_172 (dk_at dksX7_sits_0 18 rfl rfl)
abbrev cX7_does : ByteArray := prog_6_method_5_code
def yX7_does : MethodName := ⟨RX7, "does", "(I)I"⟩
def dkwX7_does_0 : List UInt8 := [42, 180, 0, 1, 180, 0, 38, 16, 11, 182, 0, 42, 42, 27, 182, 0, 48, 42, 180, 0, 17, 100, 172]
abbrev dktX7_does_0 : List UInt8 := dkwX7_does_0 ++ []
theorem dksX7_does_0 : cX7_does.data.toList.drop 0 = dktX7_does_0 := by decide +kernel
theorem dX7_does_0 : decode cX7_does 0 = .ok (.aload_n 0, 1) := dk_42 (dk_at dksX7_does_0 0 rfl rfl)
theorem dX7_does_1 : decode cX7_does 1 = .ok (.getfield 1, 3) := dk_180 0 1 (dk_at dksX7_does_0 1 rfl rfl)
theorem dX7_does_4 : decode cX7_does 4 = .ok (.getfield 38, 3) := dk_180 0 38 (dk_at dksX7_does_0 4 rfl rfl)
theorem dX7_does_7 : decode cX7_does 7 = .ok (.bipush 11, 2) := dk_16 11 (dk_at dksX7_does_0 7 rfl rfl)
theorem dX7_does_9 : decode cX7_does 9 = .ok (.invokevirtual 42, 3) := dk_182 0 42 (dk_at dksX7_does_0 9 rfl rfl)
theorem dX7_does_12 : decode cX7_does 12 = .ok (.aload_n 0, 1) := dk_42 (dk_at dksX7_does_0 12 rfl rfl)
theorem dX7_does_13 : decode cX7_does 13 = .ok (.iload_n 1, 1) := dk_27 (dk_at dksX7_does_0 13 rfl rfl)
theorem dX7_does_14 : decode cX7_does 14 = .ok (.invokevirtual 48, 3) := dk_182 0 48 (dk_at dksX7_does_0 14 rfl rfl)
theorem dX7_does_17 : decode cX7_does 17 = .ok (.aload_n 0, 1) := dk_42 (dk_at dksX7_does_0 17 rfl rfl)
theorem dX7_does_18 : decode cX7_does 18 = .ok (.getfield 17, 3) := dk_180 0 17 (dk_at dksX7_does_0 18 rfl rfl)
theorem dX7_does_21 : decode cX7_does 21 = .ok (.isub, 1) := dk_100 (dk_at dksX7_does_0 21 rfl rfl)
theorem dX7_does_22 : decode cX7_does 22 = .ok (.ireturn, 1) := dk_172 (dk_at dksX7_does_0 22 rfl rfl)
abbrev cX7_tells : ByteArray := prog_6_method_6_code
def yX7_tells : MethodName := ⟨RX7, "tells", "(I)I"⟩
def dkwX7_tells_0 : List UInt8 := [42, 180, 0, 1, 180, 0, 38, 16, 12, 182, 0, 42, 42, 27, 182, 0, 52, 5, 104, 172]
abbrev dktX7_tells_0 : List UInt8 := dkwX7_tells_0 ++ []
theorem dksX7_tells_0 : cX7_tells.data.toList.drop 0 = dktX7_tells_0 := by decide +kernel
theorem dX7_tells_0 : decode cX7_tells 0 = .ok (.aload_n 0, 1) := dk_42 (dk_at dksX7_tells_0 0 rfl rfl)
theorem dX7_tells_1 : decode cX7_tells 1 = .ok (.getfield 1, 3) := dk_180 0 1 (dk_at dksX7_tells_0 1 rfl rfl)
theorem dX7_tells_4 : decode cX7_tells 4 = .ok (.getfield 38, 3) := dk_180 0 38 (dk_at dksX7_tells_0 4 rfl rfl)
theorem dX7_tells_7 : decode cX7_tells 7 = .ok (.bipush 12, 2) := dk_16 12 (dk_at dksX7_tells_0 7 rfl rfl)
theorem dX7_tells_9 : decode cX7_tells 9 = .ok (.invokevirtual 42, 3) := dk_182 0 42 (dk_at dksX7_tells_0 9 rfl rfl)
theorem dX7_tells_12 : decode cX7_tells 12 = .ok (.aload_n 0, 1) := dk_42 (dk_at dksX7_tells_0 12 rfl rfl)
theorem dX7_tells_13 : decode cX7_tells 13 = .ok (.iload_n 1, 1) := dk_27 (dk_at dksX7_tells_0 13 rfl rfl)
theorem dX7_tells_14 : decode cX7_tells 14 = .ok (.invokevirtual 52, 3) := dk_182 0 52 (dk_at dksX7_tells_0 14 rfl rfl)
theorem dX7_tells_17 : decode cX7_tells 17 = .ok (.iconst 2, 1) := dk_5 (dk_at dksX7_tells_0 17 rfl rfl)
theorem dX7_tells_18 : decode cX7_tells 18 = .ok (.imul, 1) := dk_104 (dk_at dksX7_tells_0 18 rfl rfl)
theorem dX7_tells_19 : decode cX7_tells 19 = .ok (.ireturn, 1) := dk_172 (dk_at dksX7_tells_0 19 rfl rfl)
theorem q106 : (Jvm.Cond.initialized "HatsDecide$Hat") ∈ lw_all := lw_g (lw_at lw_m1 11 rfl) rfl
theorem q283 : (Jvm.Cond.fieldLinkNest "HatsDecide$Hat" (26 : Nat) "HatsDecide" "skills" "[I" "HatsDecide") ∈ lw_tbl := lw_at lw_m1 188 rfl
theorem q297 : (Jvm.Cond.fieldLinkNest "HatsDecide$Hat" (38 : Nat) "HatsDecide" "trace" "LHatsDecide$Trace;" "HatsDecide") ∈ lw_tbl := lw_at lw_m1 202 rfl
theorem q435 : (Jvm.Cond.instanceMethod ({ cls := "HatsDecide$Hat", name := "<init>", desc := "(LHatsDecide;IIII)V" } : Jvm.MethodName)) ∈ lw_all := lw_g (lw_at lw_m2 100 rfl) rfl
theorem q436 : (Jvm.Cond.code ({ cls := "HatsDecide$Hat", name := "<init>", desc := "(LHatsDecide;IIII)V" } : Jvm.MethodName) prog_6_method_1_code (6 : Nat) (Option.none : Option Jvm.ClassFile.FieldType)) ∈ lw_all := lw_g (lw_at lw_m2 101 rfl) rfl
theorem q437 : (Jvm.Cond.methodLink "HatsDecide$Hat" (7 : Nat) ({ cls := "java/lang/Object", name := "<init>", desc := "()V" } : Jvm.MethodName)) ∈ lw_all := lw_g (lw_at lw_m2 102 rfl) rfl
theorem q439 : (Jvm.Cond.fieldLink "HatsDecide$Hat" (13 : Nat) "HatsDecide$Hat" "number" "I") ∈ lw_all := lw_g (lw_at lw_m2 104 rfl) rfl
theorem q442 : (Jvm.Cond.fieldLink "HatsDecide$Hat" (17 : Nat) "HatsDecide$Hat" "v" "I") ∈ lw_all := lw_g (lw_at lw_m2 107 rfl) rfl
theorem q450 : (Jvm.Cond.fieldLink "HatsDecide$Hat" (20 : Nat) "HatsDecide$Hat" "size" "I") ∈ lw_all := lw_g (lw_at lw_m2 115 rfl) rfl
theorem q456 : (Jvm.Cond.fieldLink "HatsDecide$Hat" (23 : Nat) "HatsDecide$Hat" "trade" "I") ∈ lw_all := lw_g (lw_at lw_m2 121 rfl) rfl
theorem q458 : (Jvm.Cond.fieldLink "HatsDecide$Hat" (1 : Nat) "HatsDecide$Hat" "this$0" "LHatsDecide;") ∈ lw_all := lw_g (lw_at lw_m2 123 rfl) rfl
theorem q462 : (Jvm.Cond.soleField "HatsDecide$Hat" "number") ∈ lw_all := lw_g (lw_at lw_m2 127 rfl) rfl
theorem q464 : (Jvm.Cond.soleField "HatsDecide$Hat" "v") ∈ lw_all := lw_g (lw_at lw_m2 129 rfl) rfl
theorem q466 : (Jvm.Cond.soleField "HatsDecide$Hat" "size") ∈ lw_all := lw_g (lw_at lw_m2 131 rfl) rfl
theorem q468 : (Jvm.Cond.soleField "HatsDecide$Hat" "trade") ∈ lw_all := lw_g (lw_at lw_m2 133 rfl) rfl
theorem q470 : (Jvm.Cond.soleField "HatsDecide$Hat" "this$0") ∈ lw_all := lw_g (lw_at lw_m2 135 rfl) rfl
theorem q554 : (Jvm.Cond.instantiable "HatsDecide$Hat" (5 : Nat)) ∈ lw_all := lw_g (lw_at lw_m2 219 rfl) rfl
theorem q556 : (Jvm.Cond.laysFinal "HatsDecide$Hat" "HatsDecide$Hat" "number" "I") ∈ lw_all := lw_g (lw_at lw_m2 221 rfl) rfl
theorem q557 : (Jvm.Cond.laysFinal "HatsDecide$Hat" "HatsDecide$Hat" "v" "I") ∈ lw_all := lw_g (lw_at lw_m2 222 rfl) rfl
theorem q558 : (Jvm.Cond.laysFinal "HatsDecide$Hat" "HatsDecide$Hat" "size" "I") ∈ lw_all := lw_g (lw_at lw_m2 223 rfl) rfl
theorem q559 : (Jvm.Cond.laysFinal "HatsDecide$Hat" "HatsDecide$Hat" "trade" "I") ∈ lw_all := lw_g (lw_at lw_m2 224 rfl) rfl
theorem q560 : (Jvm.Cond.laysFinal "HatsDecide$Hat" "HatsDecide$Hat" "this$0" "LHatsDecide;") ∈ lw_all := lw_g (lw_at lw_m2 225 rfl) rfl
theorem q561 : (Jvm.Cond.superclass "HatsDecide$Hat" "java/lang/Object") ∈ lw_all := lw_g (lw_at lw_m2 226 rfl) rfl
theorem q571 : (Jvm.Cond.instanceMethod ({ cls := "HatsDecide$Hat", name := "kind", desc := "()I" } : Jvm.MethodName)) ∈ lw_all := lw_g (lw_at lw_m2 236 rfl) rfl
theorem q572 : (Jvm.Cond.selects "HatsDecide$Hat" ({ cls := "HatsDecide$Hat", name := "kind", desc := "()I" } : Jvm.MethodName) ({ cls := "HatsDecide$Hat", name := "kind", desc := "()I" } : Jvm.MethodName)) ∈ lw_all := lw_g (lw_at lw_m2 237 rfl) rfl
theorem q573 : (Jvm.Cond.sameMethod "HatsDecide$Hat" "HatsDecide$Hat" "kind" "()I") ∈ lw_all := lw_g (lw_at lw_m2 238 rfl) rfl
theorem q592 : (Jvm.Cond.code ({ cls := "HatsDecide$Hat", name := "kind", desc := "()I" } : Jvm.MethodName) prog_6_method_2_code (1 : Nat) (Option.some Jvm.ClassFile.FieldType.int)) ∈ lw_all := lw_g (lw_at lw_m3 17 rfl) rfl
theorem q653 : (Jvm.Cond.instanceMethod ({ cls := "HatsDecide$Hat", name := "deed", desc := "(IIII)I" } : Jvm.MethodName)) ∈ lw_all := lw_g (lw_at lw_m3 78 rfl) rfl
theorem q654 : (Jvm.Cond.selects "HatsDecide$Hat" ({ cls := "HatsDecide$Hat", name := "deed", desc := "(IIII)I" } : Jvm.MethodName) ({ cls := "HatsDecide$Hat", name := "deed", desc := "(IIII)I" } : Jvm.MethodName)) ∈ lw_all := lw_g (lw_at lw_m3 79 rfl) rfl
theorem q655 : (Jvm.Cond.sameMethod "HatsDecide$Hat" "HatsDecide$Hat" "deed" "(IIII)I") ∈ lw_all := lw_g (lw_at lw_m3 80 rfl) rfl
theorem q688 : (Jvm.Cond.code ({ cls := "HatsDecide$Hat", name := "deed", desc := "(IIII)I" } : Jvm.MethodName) prog_6_method_3_code (5 : Nat) (Option.some Jvm.ClassFile.FieldType.int)) ∈ lw_all := lw_g (lw_at lw_m3 113 rfl) rfl
theorem q689 : (Jvm.Cond.methodLink "HatsDecide$Hat" (32 : Nat) ({ cls := "java/lang/Math", name := "max", desc := "(II)I" } : Jvm.MethodName)) ∈ lw_all := lw_g (lw_at lw_m3 114 rfl) rfl
theorem q1005 : (Jvm.Cond.selects "HatsDecide$Hat" ({ cls := "java/lang/Object", name := "getClass", desc := "()Ljava/lang/Class;" } : Jvm.MethodName) ({ cls := "java/lang/Object", name := "getClass", desc := "()Ljava/lang/Class;" } : Jvm.MethodName)) ∈ lw_all := lw_g (lw_at lw_m4 190 rfl) rfl
theorem q1312 : (Jvm.Cond.instanceMethod ({ cls := "HatsDecide$Hat", name := "sits", desc := "(I)I" } : Jvm.MethodName)) ∈ lw_all := lw_g (lw_at lw_m6 17 rfl) rfl
theorem q1313 : (Jvm.Cond.selects "HatsDecide$Hat" ({ cls := "HatsDecide$Hat", name := "sits", desc := "(I)I" } : Jvm.MethodName) ({ cls := "HatsDecide$Hat", name := "sits", desc := "(I)I" } : Jvm.MethodName)) ∈ lw_all := lw_g (lw_at lw_m6 18 rfl) rfl
theorem q1314 : (Jvm.Cond.sameMethod "HatsDecide$Hat" "HatsDecide$Hat" "sits" "(I)I") ∈ lw_all := lw_g (lw_at lw_m6 19 rfl) rfl
theorem q1330 : (Jvm.Cond.declares ({ cls := "HatsDecide$Hat", name := "sits", desc := "(I)I" } : Jvm.MethodName)) ∈ lw_tbl := lw_at lw_m6 35 rfl
theorem q1339 : (Jvm.Cond.code ({ cls := "HatsDecide$Hat", name := "sits", desc := "(I)I" } : Jvm.MethodName) prog_6_method_4_code (2 : Nat) (Option.some Jvm.ClassFile.FieldType.int)) ∈ lw_all := lw_g (lw_at lw_m6 44 rfl) rfl
theorem q1340 : (Jvm.Cond.methodLink "HatsDecide$Hat" (42 : Nat) ({ cls := "HatsDecide$Trace", name := "ran", desc := "(I)V" } : Jvm.MethodName)) ∈ lw_all := lw_g (lw_at lw_m6 45 rfl) rfl
theorem q1342 : (Jvm.Cond.instanceMethod ({ cls := "HatsDecide$Hat", name := "does", desc := "(I)I" } : Jvm.MethodName)) ∈ lw_all := lw_g (lw_at lw_m6 47 rfl) rfl
theorem q1343 : (Jvm.Cond.selects "HatsDecide$Hat" ({ cls := "HatsDecide$Hat", name := "does", desc := "(I)I" } : Jvm.MethodName) ({ cls := "HatsDecide$Hat", name := "does", desc := "(I)I" } : Jvm.MethodName)) ∈ lw_all := lw_g (lw_at lw_m6 48 rfl) rfl
theorem q1344 : (Jvm.Cond.sameMethod "HatsDecide$Hat" "HatsDecide$Hat" "does" "(I)I") ∈ lw_all := lw_g (lw_at lw_m6 49 rfl) rfl
theorem q1361 : (Jvm.Cond.declares ({ cls := "HatsDecide$Hat", name := "does", desc := "(I)I" } : Jvm.MethodName)) ∈ lw_tbl := lw_at lw_m6 66 rfl
theorem q1363 : (Jvm.Cond.code ({ cls := "HatsDecide$Hat", name := "does", desc := "(I)I" } : Jvm.MethodName) prog_6_method_5_code (2 : Nat) (Option.some Jvm.ClassFile.FieldType.int)) ∈ lw_all := lw_g (lw_at lw_m6 68 rfl) rfl
theorem q1364 : (Jvm.Cond.methodLink "HatsDecide$Hat" (48 : Nat) ({ cls := "HatsDecide$Hat", name := "sits", desc := "(I)I" } : Jvm.MethodName)) ∈ lw_all := lw_g (lw_at lw_m6 69 rfl) rfl
theorem q1366 : (Jvm.Cond.instanceMethod ({ cls := "HatsDecide$Hat", name := "tells", desc := "(I)I" } : Jvm.MethodName)) ∈ lw_all := lw_g (lw_at lw_m6 71 rfl) rfl
theorem q1367 : (Jvm.Cond.selects "HatsDecide$Hat" ({ cls := "HatsDecide$Hat", name := "tells", desc := "(I)I" } : Jvm.MethodName) ({ cls := "HatsDecide$Hat", name := "tells", desc := "(I)I" } : Jvm.MethodName)) ∈ lw_all := lw_g (lw_at lw_m6 72 rfl) rfl
theorem q1368 : (Jvm.Cond.sameMethod "HatsDecide$Hat" "HatsDecide$Hat" "tells" "(I)I") ∈ lw_all := lw_g (lw_at lw_m6 73 rfl) rfl
theorem q1383 : (Jvm.Cond.declares ({ cls := "HatsDecide$Hat", name := "tells", desc := "(I)I" } : Jvm.MethodName)) ∈ lw_tbl := lw_at lw_m6 88 rfl
theorem q1388 : (Jvm.Cond.code ({ cls := "HatsDecide$Hat", name := "tells", desc := "(I)I" } : Jvm.MethodName) prog_6_method_6_code (2 : Nat) (Option.some Jvm.ClassFile.FieldType.int)) ∈ lw_all := lw_g (lw_at lw_m6 93 rfl) rfl
theorem q1389 : (Jvm.Cond.methodLink "HatsDecide$Hat" (52 : Nat) ({ cls := "HatsDecide$Hat", name := "does", desc := "(I)I" } : Jvm.MethodName)) ∈ lw_all := lw_g (lw_at lw_m6 94 rfl) rfl
theorem q2174 : (Jvm.Cond.castable "HatsDecide$Hat" "java/lang/Object") ∈ lw_tbl := lw_at lw_m9 159 rfl
theorem in_X7 : ∀ w ∈ wsX70, w ∈ lw_all := lw_in wsX70 [556, 557, 558, 559, 560] (by decide +kernel) (by decide +kernel)

/-! HatsDecide$Tight -/
set_option maxRecDepth 100000
def RX8 : String := "HatsDecide$Tight"
def TX8 : u_T := fun k => match k with
  | 0 => ("HatsDecide$Hat", "number", "I", true)
  | 1 => ("HatsDecide$Hat", "v", "I", true)
  | 2 => ("HatsDecide$Hat", "size", "I", true)
  | 3 => ("HatsDecide$Hat", "trade", "I", true)
  | 4 => ("HatsDecide$Hat", "this$0", "LHatsDecide;", true)
  | _ => ("HatsDecide$Tight", "this$0", "LHatsDecide;", true)
def tyX8 : Nat → FieldType := fun k => match k with
  | 0 => .int
  | 1 => .int
  | 2 => .int
  | 3 => .int
  | 4 => .object "HatsDecide"
  | _ => .object "HatsDecide"
abbrev wsX80 : List Cond := u_ws RX8 TX8 6
-- two fields of one name: no nmX8
theorem tyX8_ok : ∀ k, k < 6 → parseFieldDescriptor (TX8 k).2.2.1 = some (tyX8 k) := by decide +kernel
abbrev cX8_init : ByteArray := prog_16_method_1_code
def yX8_init : MethodName := ⟨RX8, "<init>", "(LHatsDecide;IIII)V"⟩
def dkwX8_init_0 : List UInt8 := [42, 43, 181, 0, 3, 42, 43, 28, 29, 21, 4, 21, 5, 183, 0, 9, 177]
abbrev dktX8_init_0 : List UInt8 := dkwX8_init_0 ++ []
theorem dksX8_init_0 : cX8_init.data.toList.drop 0 = dktX8_init_0 := by decide +kernel
theorem dX8_init_0 : decode cX8_init 0 = .ok (.aload_n 0, 1) := dk_42 (dk_at dksX8_init_0 0 rfl rfl)
theorem dX8_init_1 : decode cX8_init 1 = .ok (.aload_n 1, 1) := dk_43 (dk_at dksX8_init_0 1 rfl rfl)
theorem dX8_init_2 : decode cX8_init 2 = .ok (.putfield 3, 3) := dk_181 0 3 (dk_at dksX8_init_0 2 rfl rfl)
theorem dX8_init_5 : decode cX8_init 5 = .ok (.aload_n 0, 1) := dk_42 (dk_at dksX8_init_0 5 rfl rfl)
theorem dX8_init_6 : decode cX8_init 6 = .ok (.aload_n 1, 1) := dk_43 (dk_at dksX8_init_0 6 rfl rfl)
theorem dX8_init_7 : decode cX8_init 7 = .ok (.iload_n 2, 1) := dk_28 (dk_at dksX8_init_0 7 rfl rfl)
theorem dX8_init_8 : decode cX8_init 8 = .ok (.iload_n 3, 1) := dk_29 (dk_at dksX8_init_0 8 rfl rfl)
theorem dX8_init_9 : decode cX8_init 9 = .ok (.iload 4, 2) := dk_21 4 (dk_at dksX8_init_0 9 rfl rfl)
theorem dX8_init_11 : decode cX8_init 11 = .ok (.iload 5, 2) := dk_21 5 (dk_at dksX8_init_0 11 rfl rfl)
theorem dX8_init_13 : decode cX8_init 13 = .ok (.invokespecial 9, 3) := dk_183 0 9 (dk_at dksX8_init_0 13 rfl rfl)
theorem dX8_init_16 : decode cX8_init 16 = .ok (.return_, 1) := dk_177 (dk_at dksX8_init_0 16 rfl rfl)
abbrev cX8_kind : ByteArray := prog_16_method_2_code
def yX8_kind : MethodName := ⟨RX8, "kind", "()I"⟩
theorem dX8_kind_0 : decode cX8_kind 0 = .ok (.iconst 1, 1) := by decide +kernel
theorem dX8_kind_1 : decode cX8_kind 1 = .ok (.ireturn, 1) := by decide +kernel
abbrev cX8_deed : ByteArray := prog_16_method_3_code
def yX8_deed : MethodName := ⟨RX8, "deed", "(IIII)I"⟩
def dkwX8_deed_1 : List UInt8 := [184, 0, 29, 172]
abbrev dktX8_deed_1 : List UInt8 := dkwX8_deed_1 ++ []
def dkwX8_deed_0 : List UInt8 := [3, 42, 27, 28, 29, 21, 4, 183, 0, 15, 5, 42, 180, 0, 19, 28, 100, 184, 0, 23, 104, 100]
abbrev dktX8_deed_0 : List UInt8 := dkwX8_deed_0 ++ dktX8_deed_1
theorem dksX8_deed_0 : cX8_deed.data.toList.drop 0 = dktX8_deed_0 := by decide +kernel
theorem dksX8_deed_1 : cX8_deed.data.toList.drop 22 = dktX8_deed_1 := dk_seg dksX8_deed_0 22 rfl rfl
theorem dX8_deed_0 : decode cX8_deed 0 = .ok (.iconst 0, 1) := dk_3 (dk_at dksX8_deed_0 0 rfl rfl)
theorem dX8_deed_1 : decode cX8_deed 1 = .ok (.aload_n 0, 1) := dk_42 (dk_at dksX8_deed_0 1 rfl rfl)
theorem dX8_deed_2 : decode cX8_deed 2 = .ok (.iload_n 1, 1) := dk_27 (dk_at dksX8_deed_0 2 rfl rfl)
theorem dX8_deed_3 : decode cX8_deed 3 = .ok (.iload_n 2, 1) := dk_28 (dk_at dksX8_deed_0 3 rfl rfl)
theorem dX8_deed_4 : decode cX8_deed 4 = .ok (.iload_n 3, 1) := dk_29 (dk_at dksX8_deed_0 4 rfl rfl)
theorem dX8_deed_5 : decode cX8_deed 5 = .ok (.iload 4, 2) := dk_21 4 (dk_at dksX8_deed_0 5 rfl rfl)
theorem dX8_deed_7 : decode cX8_deed 7 = .ok (.invokespecial 15, 3) := dk_183 0 15 (dk_at dksX8_deed_0 7 rfl rfl)
theorem dX8_deed_10 : decode cX8_deed 10 = .ok (.iconst 2, 1) := dk_5 (dk_at dksX8_deed_0 10 rfl rfl)
theorem dX8_deed_11 : decode cX8_deed 11 = .ok (.aload_n 0, 1) := dk_42 (dk_at dksX8_deed_0 11 rfl rfl)
theorem dX8_deed_12 : decode cX8_deed 12 = .ok (.getfield 19, 3) := dk_180 0 19 (dk_at dksX8_deed_0 12 rfl rfl)
theorem dX8_deed_15 : decode cX8_deed 15 = .ok (.iload_n 2, 1) := dk_28 (dk_at dksX8_deed_0 15 rfl rfl)
theorem dX8_deed_16 : decode cX8_deed 16 = .ok (.isub, 1) := dk_100 (dk_at dksX8_deed_0 16 rfl rfl)
theorem dX8_deed_17 : decode cX8_deed 17 = .ok (.invokestatic 23, 3) := dk_184 0 23 (dk_at dksX8_deed_0 17 rfl rfl)
theorem dX8_deed_20 : decode cX8_deed 20 = .ok (.imul, 1) := dk_104 (dk_at dksX8_deed_0 20 rfl rfl)
theorem dX8_deed_21 : decode cX8_deed 21 = .ok (.isub, 1) := dk_100 (dk_at dksX8_deed_0 21 rfl rfl)
theorem dX8_deed_22 : decode cX8_deed 22 = .ok (.invokestatic 29, 3) := dk_184 0 29 (dk_at dksX8_deed_1 0 rfl rfl)
theorem dX8_deed_25 : decode cX8_deed 25 = .ok (.ireturn, 1) := dk_172 (dk_at dksX8_deed_1 3 rfl rfl)
abbrev cX8_does : ByteArray := prog_16_method_4_code
def yX8_does : MethodName := ⟨RX8, "does", "(I)I"⟩
def dkwX8_does_0 : List UInt8 := [42, 180, 0, 3, 180, 0, 33, 16, 20, 182, 0, 37, 42, 27, 183, 0, 43, 16, 6, 130, 172]
abbrev dktX8_does_0 : List UInt8 := dkwX8_does_0 ++ []
theorem dksX8_does_0 : cX8_does.data.toList.drop 0 = dktX8_does_0 := by decide +kernel
theorem dX8_does_0 : decode cX8_does 0 = .ok (.aload_n 0, 1) := dk_42 (dk_at dksX8_does_0 0 rfl rfl)
theorem dX8_does_1 : decode cX8_does 1 = .ok (.getfield 3, 3) := dk_180 0 3 (dk_at dksX8_does_0 1 rfl rfl)
theorem dX8_does_4 : decode cX8_does 4 = .ok (.getfield 33, 3) := dk_180 0 33 (dk_at dksX8_does_0 4 rfl rfl)
theorem dX8_does_7 : decode cX8_does 7 = .ok (.bipush 20, 2) := dk_16 20 (dk_at dksX8_does_0 7 rfl rfl)
theorem dX8_does_9 : decode cX8_does 9 = .ok (.invokevirtual 37, 3) := dk_182 0 37 (dk_at dksX8_does_0 9 rfl rfl)
theorem dX8_does_12 : decode cX8_does 12 = .ok (.aload_n 0, 1) := dk_42 (dk_at dksX8_does_0 12 rfl rfl)
theorem dX8_does_13 : decode cX8_does 13 = .ok (.iload_n 1, 1) := dk_27 (dk_at dksX8_does_0 13 rfl rfl)
theorem dX8_does_14 : decode cX8_does 14 = .ok (.invokespecial 43, 3) := dk_183 0 43 (dk_at dksX8_does_0 14 rfl rfl)
theorem dX8_does_17 : decode cX8_does 17 = .ok (.bipush 6, 2) := dk_16 6 (dk_at dksX8_does_0 17 rfl rfl)
theorem dX8_does_19 : decode cX8_does 19 = .ok (.ixor, 1) := dk_130 (dk_at dksX8_does_0 19 rfl rfl)
theorem dX8_does_20 : decode cX8_does 20 = .ok (.ireturn, 1) := dk_172 (dk_at dksX8_does_0 20 rfl rfl)
theorem q107 : (Jvm.Cond.initialized "HatsDecide$Tight") ∈ lw_all := lw_g (lw_at lw_m1 12 rfl) rfl
theorem q300 : (Jvm.Cond.fieldLinkNest "HatsDecide$Tight" (33 : Nat) "HatsDecide" "trace" "LHatsDecide$Trace;" "HatsDecide") ∈ lw_tbl := lw_at lw_m1 205 rfl
theorem q430 : (Jvm.Cond.instantiable "HatsDecide$Tight" (6 : Nat)) ∈ lw_all := lw_g (lw_at lw_m2 95 rfl) rfl
theorem q432 : (Jvm.Cond.instanceMethod ({ cls := "HatsDecide$Tight", name := "<init>", desc := "(LHatsDecide;IIII)V" } : Jvm.MethodName)) ∈ lw_all := lw_g (lw_at lw_m2 97 rfl) rfl
theorem q433 : (Jvm.Cond.code ({ cls := "HatsDecide$Tight", name := "<init>", desc := "(LHatsDecide;IIII)V" } : Jvm.MethodName) prog_16_method_1_code (6 : Nat) (Option.none : Option Jvm.ClassFile.FieldType)) ∈ lw_all := lw_g (lw_at lw_m2 98 rfl) rfl
theorem q434 : (Jvm.Cond.methodLink "HatsDecide$Tight" (9 : Nat) ({ cls := "HatsDecide$Hat", name := "<init>", desc := "(LHatsDecide;IIII)V" } : Jvm.MethodName)) ∈ lw_all := lw_g (lw_at lw_m2 99 rfl) rfl
theorem q438 : (Jvm.Cond.fieldLink "HatsDecide$Tight" (3 : Nat) "HatsDecide$Tight" "this$0" "LHatsDecide;") ∈ lw_all := lw_g (lw_at lw_m2 103 rfl) rfl
theorem q453 : (Jvm.Cond.fieldLink "HatsDecide$Tight" (19 : Nat) "HatsDecide$Tight" "size" "I") ∈ lw_all := lw_g (lw_at lw_m2 118 rfl) rfl
theorem q454 : (Jvm.Cond.sameField "HatsDecide$Tight" "HatsDecide$Hat" "size" "I") ∈ lw_all := lw_g (lw_at lw_m2 119 rfl) rfl
theorem q459 : (Jvm.Cond.laysFinal "HatsDecide$Tight" "HatsDecide$Tight" "this$0" "LHatsDecide;") ∈ lw_all := lw_g (lw_at lw_m2 124 rfl) rfl
theorem q460 : (Jvm.Cond.soleField "HatsDecide$Tight" "this$0") ∈ lw_all := lw_g (lw_at lw_m2 125 rfl) rfl
theorem q461 : (Jvm.Cond.laysFinal "HatsDecide$Tight" "HatsDecide$Hat" "number" "I") ∈ lw_all := lw_g (lw_at lw_m2 126 rfl) rfl
theorem q463 : (Jvm.Cond.laysFinal "HatsDecide$Tight" "HatsDecide$Hat" "v" "I") ∈ lw_all := lw_g (lw_at lw_m2 128 rfl) rfl
theorem q465 : (Jvm.Cond.laysFinal "HatsDecide$Tight" "HatsDecide$Hat" "size" "I") ∈ lw_all := lw_g (lw_at lw_m2 130 rfl) rfl
theorem q467 : (Jvm.Cond.laysFinal "HatsDecide$Tight" "HatsDecide$Hat" "trade" "I") ∈ lw_all := lw_g (lw_at lw_m2 132 rfl) rfl
theorem q469 : (Jvm.Cond.laysFinal "HatsDecide$Tight" "HatsDecide$Hat" "this$0" "LHatsDecide;") ∈ lw_all := lw_g (lw_at lw_m2 134 rfl) rfl
theorem q471 : (Jvm.Cond.superclass "HatsDecide$Tight" "HatsDecide$Hat") ∈ lw_all := lw_g (lw_at lw_m2 136 rfl) rfl
theorem q583 : (Jvm.Cond.selects "HatsDecide$Tight" ({ cls := "HatsDecide$Hat", name := "kind", desc := "()I" } : Jvm.MethodName) ({ cls := "HatsDecide$Tight", name := "kind", desc := "()I" } : Jvm.MethodName)) ∈ lw_all := lw_g (lw_at lw_m3 8 rfl) rfl
theorem q584 : (Jvm.Cond.instanceMethod ({ cls := "HatsDecide$Tight", name := "kind", desc := "()I" } : Jvm.MethodName)) ∈ lw_all := lw_g (lw_at lw_m3 9 rfl) rfl
theorem q585 : (Jvm.Cond.code ({ cls := "HatsDecide$Tight", name := "kind", desc := "()I" } : Jvm.MethodName) prog_16_method_2_code (1 : Nat) (Option.some Jvm.ClassFile.FieldType.int)) ∈ lw_all := lw_g (lw_at lw_m3 10 rfl) rfl
theorem q675 : (Jvm.Cond.instanceMethod ({ cls := "HatsDecide$Tight", name := "deed", desc := "(IIII)I" } : Jvm.MethodName)) ∈ lw_all := lw_g (lw_at lw_m3 100 rfl) rfl
theorem q676 : (Jvm.Cond.code ({ cls := "HatsDecide$Tight", name := "deed", desc := "(IIII)I" } : Jvm.MethodName) prog_16_method_3_code (5 : Nat) (Option.some Jvm.ClassFile.FieldType.int)) ∈ lw_all := lw_g (lw_at lw_m3 101 rfl) rfl
theorem q677 : (Jvm.Cond.methodLink "HatsDecide$Tight" (15 : Nat) ({ cls := "HatsDecide$Hat", name := "deed", desc := "(IIII)I" } : Jvm.MethodName)) ∈ lw_all := lw_g (lw_at lw_m3 102 rfl) rfl
theorem q678 : (Jvm.Cond.methodLink "HatsDecide$Tight" (23 : Nat) ({ cls := "java/lang/Math", name := "abs", desc := "(I)I" } : Jvm.MethodName)) ∈ lw_all := lw_g (lw_at lw_m3 103 rfl) rfl
theorem q681 : (Jvm.Cond.methodLink "HatsDecide$Tight" (29 : Nat) ({ cls := "java/lang/Math", name := "max", desc := "(II)I" } : Jvm.MethodName)) ∈ lw_all := lw_g (lw_at lw_m3 106 rfl) rfl
theorem q682 : (Jvm.Cond.selects "HatsDecide$Tight" ({ cls := "HatsDecide$Hat", name := "deed", desc := "(IIII)I" } : Jvm.MethodName) ({ cls := "HatsDecide$Tight", name := "deed", desc := "(IIII)I" } : Jvm.MethodName)) ∈ lw_all := lw_g (lw_at lw_m3 107 rfl) rfl
theorem q1013 : (Jvm.Cond.selects "HatsDecide$Tight" ({ cls := "java/lang/Object", name := "getClass", desc := "()Ljava/lang/Class;" } : Jvm.MethodName) ({ cls := "java/lang/Object", name := "getClass", desc := "()Ljava/lang/Class;" } : Jvm.MethodName)) ∈ lw_all := lw_g (lw_at lw_m4 198 rfl) rfl
theorem q1329 : (Jvm.Cond.sameMethod "HatsDecide$Tight" "HatsDecide$Hat" "sits" "(I)I") ∈ lw_all := lw_g (lw_at lw_m6 34 rfl) rfl
theorem q1331 : (Jvm.Cond.selects "HatsDecide$Tight" ({ cls := "HatsDecide$Hat", name := "sits", desc := "(I)I" } : Jvm.MethodName) ({ cls := "HatsDecide$Hat", name := "sits", desc := "(I)I" } : Jvm.MethodName)) ∈ lw_all := lw_g (lw_at lw_m6 36 rfl) rfl
theorem q1351 : (Jvm.Cond.instanceMethod ({ cls := "HatsDecide$Tight", name := "does", desc := "(I)I" } : Jvm.MethodName)) ∈ lw_all := lw_g (lw_at lw_m6 56 rfl) rfl
theorem q1352 : (Jvm.Cond.code ({ cls := "HatsDecide$Tight", name := "does", desc := "(I)I" } : Jvm.MethodName) prog_16_method_4_code (2 : Nat) (Option.some Jvm.ClassFile.FieldType.int)) ∈ lw_all := lw_g (lw_at lw_m6 57 rfl) rfl
theorem q1353 : (Jvm.Cond.methodLink "HatsDecide$Tight" (37 : Nat) ({ cls := "HatsDecide$Trace", name := "ran", desc := "(I)V" } : Jvm.MethodName)) ∈ lw_all := lw_g (lw_at lw_m6 58 rfl) rfl
theorem q1354 : (Jvm.Cond.methodLink "HatsDecide$Tight" (43 : Nat) ({ cls := "HatsDecide$Hat", name := "does", desc := "(I)I" } : Jvm.MethodName)) ∈ lw_all := lw_g (lw_at lw_m6 59 rfl) rfl
theorem q1355 : (Jvm.Cond.selects "HatsDecide$Tight" ({ cls := "HatsDecide$Hat", name := "does", desc := "(I)I" } : Jvm.MethodName) ({ cls := "HatsDecide$Tight", name := "does", desc := "(I)I" } : Jvm.MethodName)) ∈ lw_all := lw_g (lw_at lw_m6 60 rfl) rfl
theorem q1385 : (Jvm.Cond.selects "HatsDecide$Tight" ({ cls := "HatsDecide$Hat", name := "tells", desc := "(I)I" } : Jvm.MethodName) ({ cls := "HatsDecide$Hat", name := "tells", desc := "(I)I" } : Jvm.MethodName)) ∈ lw_all := lw_g (lw_at lw_m6 90 rfl) rfl
theorem q2157 : (Jvm.Cond.sameMethod "HatsDecide$Tight" "HatsDecide$Tight" "deed" "(IIII)I") ∈ lw_all := lw_g (lw_at lw_m9 142 rfl) rfl
theorem q2160 : (Jvm.Cond.sameMethod "HatsDecide$Tight" "HatsDecide$Tight" "does" "(I)I") ∈ lw_all := lw_g (lw_at lw_m9 145 rfl) rfl
theorem q2168 : (Jvm.Cond.castable "HatsDecide$Tight" "HatsDecide$Hat") ∈ lw_tbl := lw_at lw_m9 153 rfl
theorem q2183 : (Jvm.Cond.castable "HatsDecide$Tight" "java/lang/Object") ∈ lw_tbl := lw_at lw_m9 168 rfl
theorem in_X8 : ∀ w ∈ wsX80, w ∈ lw_all := lw_in wsX80 [461, 463, 465, 467, 469, 459] (by decide +kernel) (by decide +kernel)

/-! HatsDecide$Worn -/
set_option maxRecDepth 100000
def RX9 : String := "HatsDecide$Worn"
def TX9 : u_T := fun k => match k with
  | 0 => ("HatsDecide$Hat", "number", "I", true)
  | 1 => ("HatsDecide$Hat", "v", "I", true)
  | 2 => ("HatsDecide$Hat", "size", "I", true)
  | 3 => ("HatsDecide$Hat", "trade", "I", true)
  | 4 => ("HatsDecide$Hat", "this$0", "LHatsDecide;", true)
  | _ => ("HatsDecide$Worn", "this$0", "LHatsDecide;", true)
def tyX9 : Nat → FieldType := fun k => match k with
  | 0 => .int
  | 1 => .int
  | 2 => .int
  | 3 => .int
  | 4 => .object "HatsDecide"
  | _ => .object "HatsDecide"
abbrev wsX90 : List Cond := u_ws RX9 TX9 6
-- two fields of one name: no nmX9
theorem tyX9_ok : ∀ k, k < 6 → parseFieldDescriptor (TX9 k).2.2.1 = some (tyX9 k) := by decide +kernel
abbrev cX9_init : ByteArray := prog_21_method_1_code
def yX9_init : MethodName := ⟨RX9, "<init>", "(LHatsDecide;IIII)V"⟩
def dkwX9_init_0 : List UInt8 := [42, 43, 181, 0, 3, 42, 43, 28, 29, 21, 4, 21, 5, 183, 0, 9, 177]
abbrev dktX9_init_0 : List UInt8 := dkwX9_init_0 ++ []
theorem dksX9_init_0 : cX9_init.data.toList.drop 0 = dktX9_init_0 := by decide +kernel
theorem dX9_init_0 : decode cX9_init 0 = .ok (.aload_n 0, 1) := dk_42 (dk_at dksX9_init_0 0 rfl rfl)
theorem dX9_init_1 : decode cX9_init 1 = .ok (.aload_n 1, 1) := dk_43 (dk_at dksX9_init_0 1 rfl rfl)
theorem dX9_init_2 : decode cX9_init 2 = .ok (.putfield 3, 3) := dk_181 0 3 (dk_at dksX9_init_0 2 rfl rfl)
theorem dX9_init_5 : decode cX9_init 5 = .ok (.aload_n 0, 1) := dk_42 (dk_at dksX9_init_0 5 rfl rfl)
theorem dX9_init_6 : decode cX9_init 6 = .ok (.aload_n 1, 1) := dk_43 (dk_at dksX9_init_0 6 rfl rfl)
theorem dX9_init_7 : decode cX9_init 7 = .ok (.iload_n 2, 1) := dk_28 (dk_at dksX9_init_0 7 rfl rfl)
theorem dX9_init_8 : decode cX9_init 8 = .ok (.iload_n 3, 1) := dk_29 (dk_at dksX9_init_0 8 rfl rfl)
theorem dX9_init_9 : decode cX9_init 9 = .ok (.iload 4, 2) := dk_21 4 (dk_at dksX9_init_0 9 rfl rfl)
theorem dX9_init_11 : decode cX9_init 11 = .ok (.iload 5, 2) := dk_21 5 (dk_at dksX9_init_0 11 rfl rfl)
theorem dX9_init_13 : decode cX9_init 13 = .ok (.invokespecial 9, 3) := dk_183 0 9 (dk_at dksX9_init_0 13 rfl rfl)
theorem dX9_init_16 : decode cX9_init 16 = .ok (.return_, 1) := dk_177 (dk_at dksX9_init_0 16 rfl rfl)
abbrev cX9_kind : ByteArray := prog_21_method_2_code
def yX9_kind : MethodName := ⟨RX9, "kind", "()I"⟩
theorem dX9_kind_0 : decode cX9_kind 0 = .ok (.iconst 2, 1) := by decide +kernel
theorem dX9_kind_1 : decode cX9_kind 1 = .ok (.ireturn, 1) := by decide +kernel
abbrev cX9_deed : ByteArray := prog_21_method_3_code
def yX9_deed : MethodName := ⟨RX9, "deed", "(IIII)I"⟩
def dkwX9_deed_1 : List UInt8 := [100, 184, 0, 29, 172]
abbrev dktX9_deed_1 : List UInt8 := dkwX9_deed_1 ++ []
def dkwX9_deed_0 : List UInt8 := [3, 42, 27, 28, 29, 21, 4, 183, 0, 15, 42, 180, 0, 3, 180, 0, 19, 180, 0, 23, 29, 104, 7, 108]
abbrev dktX9_deed_0 : List UInt8 := dkwX9_deed_0 ++ dktX9_deed_1
theorem dksX9_deed_0 : cX9_deed.data.toList.drop 0 = dktX9_deed_0 := by decide +kernel
theorem dksX9_deed_1 : cX9_deed.data.toList.drop 24 = dktX9_deed_1 := dk_seg dksX9_deed_0 24 rfl rfl
theorem dX9_deed_0 : decode cX9_deed 0 = .ok (.iconst 0, 1) := dk_3 (dk_at dksX9_deed_0 0 rfl rfl)
theorem dX9_deed_1 : decode cX9_deed 1 = .ok (.aload_n 0, 1) := dk_42 (dk_at dksX9_deed_0 1 rfl rfl)
theorem dX9_deed_2 : decode cX9_deed 2 = .ok (.iload_n 1, 1) := dk_27 (dk_at dksX9_deed_0 2 rfl rfl)
theorem dX9_deed_3 : decode cX9_deed 3 = .ok (.iload_n 2, 1) := dk_28 (dk_at dksX9_deed_0 3 rfl rfl)
theorem dX9_deed_4 : decode cX9_deed 4 = .ok (.iload_n 3, 1) := dk_29 (dk_at dksX9_deed_0 4 rfl rfl)
theorem dX9_deed_5 : decode cX9_deed 5 = .ok (.iload 4, 2) := dk_21 4 (dk_at dksX9_deed_0 5 rfl rfl)
theorem dX9_deed_7 : decode cX9_deed 7 = .ok (.invokespecial 15, 3) := dk_183 0 15 (dk_at dksX9_deed_0 7 rfl rfl)
theorem dX9_deed_10 : decode cX9_deed 10 = .ok (.aload_n 0, 1) := dk_42 (dk_at dksX9_deed_0 10 rfl rfl)
theorem dX9_deed_11 : decode cX9_deed 11 = .ok (.getfield 3, 3) := dk_180 0 3 (dk_at dksX9_deed_0 11 rfl rfl)
theorem dX9_deed_14 : decode cX9_deed 14 = .ok (.getfield 19, 3) := dk_180 0 19 (dk_at dksX9_deed_0 14 rfl rfl)
theorem dX9_deed_17 : decode cX9_deed 17 = .ok (.getfield 23, 3) := dk_180 0 23 (dk_at dksX9_deed_0 17 rfl rfl)
theorem dX9_deed_20 : decode cX9_deed 20 = .ok (.iload_n 3, 1) := dk_29 (dk_at dksX9_deed_0 20 rfl rfl)
theorem dX9_deed_21 : decode cX9_deed 21 = .ok (.imul, 1) := dk_104 (dk_at dksX9_deed_0 21 rfl rfl)
theorem dX9_deed_22 : decode cX9_deed 22 = .ok (.iconst 4, 1) := dk_7 (dk_at dksX9_deed_0 22 rfl rfl)
theorem dX9_deed_23 : decode cX9_deed 23 = .ok (.idiv, 1) := dk_108 (dk_at dksX9_deed_0 23 rfl rfl)
theorem dX9_deed_24 : decode cX9_deed 24 = .ok (.isub, 1) := dk_100 (dk_at dksX9_deed_1 0 rfl rfl)
theorem dX9_deed_25 : decode cX9_deed 25 = .ok (.invokestatic 29, 3) := dk_184 0 29 (dk_at dksX9_deed_1 1 rfl rfl)
theorem dX9_deed_28 : decode cX9_deed 28 = .ok (.ireturn, 1) := dk_172 (dk_at dksX9_deed_1 4 rfl rfl)
abbrev cX9_sits : ByteArray := prog_21_method_4_code
def yX9_sits : MethodName := ⟨RX9, "sits", "(I)I"⟩
def dkwX9_sits_0 : List UInt8 := [42, 180, 0, 3, 180, 0, 35, 16, 30, 182, 0, 39, 42, 27, 6, 104, 183, 0, 45, 172]
abbrev dktX9_sits_0 : List UInt8 := dkwX9_sits_0 ++ []
theorem dksX9_sits_0 : cX9_sits.data.toList.drop 0 = dktX9_sits_0 := by decide +kernel
theorem dX9_sits_0 : decode cX9_sits 0 = .ok (.aload_n 0, 1) := dk_42 (dk_at dksX9_sits_0 0 rfl rfl)
theorem dX9_sits_1 : decode cX9_sits 1 = .ok (.getfield 3, 3) := dk_180 0 3 (dk_at dksX9_sits_0 1 rfl rfl)
theorem dX9_sits_4 : decode cX9_sits 4 = .ok (.getfield 35, 3) := dk_180 0 35 (dk_at dksX9_sits_0 4 rfl rfl)
theorem dX9_sits_7 : decode cX9_sits 7 = .ok (.bipush 30, 2) := dk_16 30 (dk_at dksX9_sits_0 7 rfl rfl)
theorem dX9_sits_9 : decode cX9_sits 9 = .ok (.invokevirtual 39, 3) := dk_182 0 39 (dk_at dksX9_sits_0 9 rfl rfl)
theorem dX9_sits_12 : decode cX9_sits 12 = .ok (.aload_n 0, 1) := dk_42 (dk_at dksX9_sits_0 12 rfl rfl)
theorem dX9_sits_13 : decode cX9_sits 13 = .ok (.iload_n 1, 1) := dk_27 (dk_at dksX9_sits_0 13 rfl rfl)
theorem dX9_sits_14 : decode cX9_sits 14 = .ok (.iconst 3, 1) := dk_6 (dk_at dksX9_sits_0 14 rfl rfl)
theorem dX9_sits_15 : decode cX9_sits 15 = .ok (.imul, 1) := dk_104 (dk_at dksX9_sits_0 15 rfl rfl)
theorem dX9_sits_16 : decode cX9_sits 16 = .ok (.invokespecial 45, 3) := dk_183 0 45 (dk_at dksX9_sits_0 16 rfl rfl)
theorem dX9_sits_19 : decode cX9_sits 19 = .ok (.ireturn, 1) := dk_172 (dk_at dksX9_sits_0 19 rfl rfl)
theorem q108 : (Jvm.Cond.initialized "HatsDecide$Worn") ∈ lw_all := lw_g (lw_at lw_m1 13 rfl) rfl
theorem q211 : (Jvm.Cond.fieldLinkNest "HatsDecide$Worn" (23 : Nat) "HatsDecide$Town" "moth" "I" "HatsDecide") ∈ lw_tbl := lw_at lw_m1 116 rfl
theorem q293 : (Jvm.Cond.fieldLinkNest "HatsDecide$Worn" (19 : Nat) "HatsDecide" "town" "LHatsDecide$Town;" "HatsDecide") ∈ lw_tbl := lw_at lw_m1 198 rfl
theorem q298 : (Jvm.Cond.fieldLinkNest "HatsDecide$Worn" (35 : Nat) "HatsDecide" "trace" "LHatsDecide$Trace;" "HatsDecide") ∈ lw_tbl := lw_at lw_m1 203 rfl
theorem q473 : (Jvm.Cond.instantiable "HatsDecide$Worn" (6 : Nat)) ∈ lw_all := lw_g (lw_at lw_m2 138 rfl) rfl
theorem q475 : (Jvm.Cond.instanceMethod ({ cls := "HatsDecide$Worn", name := "<init>", desc := "(LHatsDecide;IIII)V" } : Jvm.MethodName)) ∈ lw_all := lw_g (lw_at lw_m2 140 rfl) rfl
theorem q476 : (Jvm.Cond.code ({ cls := "HatsDecide$Worn", name := "<init>", desc := "(LHatsDecide;IIII)V" } : Jvm.MethodName) prog_21_method_1_code (6 : Nat) (Option.none : Option Jvm.ClassFile.FieldType)) ∈ lw_all := lw_g (lw_at lw_m2 141 rfl) rfl
theorem q477 : (Jvm.Cond.methodLink "HatsDecide$Worn" (9 : Nat) ({ cls := "HatsDecide$Hat", name := "<init>", desc := "(LHatsDecide;IIII)V" } : Jvm.MethodName)) ∈ lw_all := lw_g (lw_at lw_m2 142 rfl) rfl
theorem q478 : (Jvm.Cond.fieldLink "HatsDecide$Worn" (3 : Nat) "HatsDecide$Worn" "this$0" "LHatsDecide;") ∈ lw_all := lw_g (lw_at lw_m2 143 rfl) rfl
theorem q479 : (Jvm.Cond.laysFinal "HatsDecide$Worn" "HatsDecide$Worn" "this$0" "LHatsDecide;") ∈ lw_all := lw_g (lw_at lw_m2 144 rfl) rfl
theorem q480 : (Jvm.Cond.soleField "HatsDecide$Worn" "this$0") ∈ lw_all := lw_g (lw_at lw_m2 145 rfl) rfl
theorem q481 : (Jvm.Cond.laysFinal "HatsDecide$Worn" "HatsDecide$Hat" "number" "I") ∈ lw_all := lw_g (lw_at lw_m2 146 rfl) rfl
theorem q482 : (Jvm.Cond.laysFinal "HatsDecide$Worn" "HatsDecide$Hat" "v" "I") ∈ lw_all := lw_g (lw_at lw_m2 147 rfl) rfl
theorem q483 : (Jvm.Cond.laysFinal "HatsDecide$Worn" "HatsDecide$Hat" "size" "I") ∈ lw_all := lw_g (lw_at lw_m2 148 rfl) rfl
theorem q484 : (Jvm.Cond.laysFinal "HatsDecide$Worn" "HatsDecide$Hat" "trade" "I") ∈ lw_all := lw_g (lw_at lw_m2 149 rfl) rfl
theorem q485 : (Jvm.Cond.laysFinal "HatsDecide$Worn" "HatsDecide$Hat" "this$0" "LHatsDecide;") ∈ lw_all := lw_g (lw_at lw_m2 150 rfl) rfl
theorem q486 : (Jvm.Cond.superclass "HatsDecide$Worn" "HatsDecide$Hat") ∈ lw_all := lw_g (lw_at lw_m2 151 rfl) rfl
theorem q589 : (Jvm.Cond.selects "HatsDecide$Worn" ({ cls := "HatsDecide$Hat", name := "kind", desc := "()I" } : Jvm.MethodName) ({ cls := "HatsDecide$Worn", name := "kind", desc := "()I" } : Jvm.MethodName)) ∈ lw_all := lw_g (lw_at lw_m3 14 rfl) rfl
theorem q590 : (Jvm.Cond.instanceMethod ({ cls := "HatsDecide$Worn", name := "kind", desc := "()I" } : Jvm.MethodName)) ∈ lw_all := lw_g (lw_at lw_m3 15 rfl) rfl
theorem q591 : (Jvm.Cond.code ({ cls := "HatsDecide$Worn", name := "kind", desc := "()I" } : Jvm.MethodName) prog_21_method_2_code (1 : Nat) (Option.some Jvm.ClassFile.FieldType.int)) ∈ lw_all := lw_g (lw_at lw_m3 16 rfl) rfl
theorem q664 : (Jvm.Cond.instanceMethod ({ cls := "HatsDecide$Worn", name := "deed", desc := "(IIII)I" } : Jvm.MethodName)) ∈ lw_all := lw_g (lw_at lw_m3 89 rfl) rfl
theorem q665 : (Jvm.Cond.code ({ cls := "HatsDecide$Worn", name := "deed", desc := "(IIII)I" } : Jvm.MethodName) prog_21_method_3_code (5 : Nat) (Option.some Jvm.ClassFile.FieldType.int)) ∈ lw_all := lw_g (lw_at lw_m3 90 rfl) rfl
theorem q666 : (Jvm.Cond.methodLink "HatsDecide$Worn" (15 : Nat) ({ cls := "HatsDecide$Hat", name := "deed", desc := "(IIII)I" } : Jvm.MethodName)) ∈ lw_all := lw_g (lw_at lw_m3 91 rfl) rfl
theorem q667 : (Jvm.Cond.methodLink "HatsDecide$Worn" (29 : Nat) ({ cls := "java/lang/Math", name := "max", desc := "(II)I" } : Jvm.MethodName)) ∈ lw_all := lw_g (lw_at lw_m3 92 rfl) rfl
theorem q687 : (Jvm.Cond.selects "HatsDecide$Worn" ({ cls := "HatsDecide$Hat", name := "deed", desc := "(IIII)I" } : Jvm.MethodName) ({ cls := "HatsDecide$Worn", name := "deed", desc := "(IIII)I" } : Jvm.MethodName)) ∈ lw_all := lw_g (lw_at lw_m3 112 rfl) rfl
theorem q1018 : (Jvm.Cond.selects "HatsDecide$Worn" ({ cls := "java/lang/Object", name := "getClass", desc := "()Ljava/lang/Class;" } : Jvm.MethodName) ({ cls := "java/lang/Object", name := "getClass", desc := "()Ljava/lang/Class;" } : Jvm.MethodName)) ∈ lw_all := lw_g (lw_at lw_m4 203 rfl) rfl
theorem q1317 : (Jvm.Cond.instanceMethod ({ cls := "HatsDecide$Worn", name := "sits", desc := "(I)I" } : Jvm.MethodName)) ∈ lw_all := lw_g (lw_at lw_m6 22 rfl) rfl
theorem q1318 : (Jvm.Cond.code ({ cls := "HatsDecide$Worn", name := "sits", desc := "(I)I" } : Jvm.MethodName) prog_21_method_4_code (2 : Nat) (Option.some Jvm.ClassFile.FieldType.int)) ∈ lw_all := lw_g (lw_at lw_m6 23 rfl) rfl
theorem q1319 : (Jvm.Cond.methodLink "HatsDecide$Worn" (39 : Nat) ({ cls := "HatsDecide$Trace", name := "ran", desc := "(I)V" } : Jvm.MethodName)) ∈ lw_all := lw_g (lw_at lw_m6 24 rfl) rfl
theorem q1323 : (Jvm.Cond.methodLink "HatsDecide$Worn" (45 : Nat) ({ cls := "HatsDecide$Hat", name := "sits", desc := "(I)I" } : Jvm.MethodName)) ∈ lw_all := lw_g (lw_at lw_m6 28 rfl) rfl
theorem q1338 : (Jvm.Cond.selects "HatsDecide$Worn" ({ cls := "HatsDecide$Hat", name := "sits", desc := "(I)I" } : Jvm.MethodName) ({ cls := "HatsDecide$Worn", name := "sits", desc := "(I)I" } : Jvm.MethodName)) ∈ lw_all := lw_g (lw_at lw_m6 43 rfl) rfl
theorem q1362 : (Jvm.Cond.selects "HatsDecide$Worn" ({ cls := "HatsDecide$Hat", name := "does", desc := "(I)I" } : Jvm.MethodName) ({ cls := "HatsDecide$Hat", name := "does", desc := "(I)I" } : Jvm.MethodName)) ∈ lw_all := lw_g (lw_at lw_m6 67 rfl) rfl
theorem q1382 : (Jvm.Cond.sameMethod "HatsDecide$Worn" "HatsDecide$Hat" "tells" "(I)I") ∈ lw_all := lw_g (lw_at lw_m6 87 rfl) rfl
theorem q1387 : (Jvm.Cond.selects "HatsDecide$Worn" ({ cls := "HatsDecide$Hat", name := "tells", desc := "(I)I" } : Jvm.MethodName) ({ cls := "HatsDecide$Hat", name := "tells", desc := "(I)I" } : Jvm.MethodName)) ∈ lw_all := lw_g (lw_at lw_m6 92 rfl) rfl
theorem q2156 : (Jvm.Cond.sameMethod "HatsDecide$Worn" "HatsDecide$Worn" "deed" "(IIII)I") ∈ lw_all := lw_g (lw_at lw_m9 141 rfl) rfl
theorem q2170 : (Jvm.Cond.castable "HatsDecide$Worn" "HatsDecide$Hat") ∈ lw_tbl := lw_at lw_m9 155 rfl
theorem q2184 : (Jvm.Cond.castable "HatsDecide$Worn" "java/lang/Object") ∈ lw_tbl := lw_at lw_m9 169 rfl
theorem in_X9 : ∀ w ∈ wsX90, w ∈ lw_all := lw_in wsX90 [481, 482, 483, 484, 485, 479] (by decide +kernel) (by decide +kernel)

theorem q95 : (Jvm.Cond.initialized "HatsDecideLaw") ∈ lw_all := lw_g (lw_at lw_m1 0 rfl) rfl
set_option maxRecDepth 100000
theorem q138 : (Jvm.Cond.classLink "HatsDecideLaw" (7 : Nat) "HatsDecide") ∈ lw_all := lw_g (lw_at lw_m1 43 rfl) rfl
theorem q140 : (Jvm.Cond.methodLink "HatsDecideLaw" (9 : Nat) ({ cls := "HatsDecide", name := "<init>", desc := "()V" } : Jvm.MethodName)) ∈ lw_all := lw_g (lw_at lw_m1 45 rfl) rfl
theorem q411 : (Jvm.Cond.methodLink "HatsDecideLaw" (13 : Nat) ({ cls := "HatsDecide", name := "head", desc := "(I)I" } : Jvm.MethodName)) ∈ lw_all := lw_g (lw_at lw_m2 76 rfl) rfl
theorem q418 : (Jvm.Cond.methodLink "HatsDecideLaw" (18 : Nat) ({ cls := "HatsDecide", name := "hat", desc := "(IIIII)I" } : Jvm.MethodName)) ∈ lw_all := lw_g (lw_at lw_m2 83 rfl) rfl
theorem q562 : (Jvm.Cond.methodLink "HatsDecideLaw" (23 : Nat) ({ cls := "HatsDecide", name := "of", desc := "(II)I" } : Jvm.MethodName)) ∈ lw_all := lw_g (lw_at lw_m2 227 rfl) rfl
theorem q690 : (Jvm.Cond.methodLink "HatsDecideLaw" (28 : Nat) ({ cls := "HatsDecide", name := "at", desc := "(II)I" } : Jvm.MethodName)) ∈ lw_all := lw_g (lw_at lw_m3 115 rfl) rfl
theorem q694 : (Jvm.Cond.methodLink "HatsDecideLaw" (32 : Nat) ({ cls := "HatsDecide", name := "row", desc := "(III)I" } : Jvm.MethodName)) ∈ lw_all := lw_g (lw_at lw_m3 119 rfl) rfl
theorem q698 : (Jvm.Cond.methodLink "HatsDecideLaw" (37 : Nat) ({ cls := "HatsDecide", name := "put", desc := "(II)I" } : Jvm.MethodName)) ∈ lw_all := lw_g (lw_at lw_m3 123 rfl) rfl
theorem q702 : (Jvm.Cond.methodLink "HatsDecideLaw" (41 : Nat) ({ cls := "HatsDecide", name := "own", desc := "(II)I" } : Jvm.MethodName)) ∈ lw_all := lw_g (lw_at lw_m3 127 rfl) rfl
theorem q706 : (Jvm.Cond.methodLink "HatsDecideLaw" (45 : Nat) ({ cls := "HatsDecide", name := "skill", desc := "(II)I" } : Jvm.MethodName)) ∈ lw_all := lw_g (lw_at lw_m3 131 rfl) rfl
theorem q710 : (Jvm.Cond.methodLink "HatsDecideLaw" (49 : Nat) ({ cls := "HatsDecide", name := "feed", desc := "(I)I" } : Jvm.MethodName)) ∈ lw_all := lw_g (lw_at lw_m3 135 rfl) rfl
theorem q714 : (Jvm.Cond.methodLink "HatsDecideLaw" (53 : Nat) ({ cls := "HatsDecide", name := "town", desc := "()I" } : Jvm.MethodName)) ∈ lw_all := lw_g (lw_at lw_m3 139 rfl) rfl
theorem q1061 : (Jvm.Cond.methodLink "HatsDecideLaw" (58 : Nat) ({ cls := "HatsDecide", name := "told", desc := "(I)I" } : Jvm.MethodName)) ∈ lw_all := lw_g (lw_at lw_m5 6 rfl) rfl
theorem q1065 : (Jvm.Cond.methodLink "HatsDecideLaw" (62 : Nat) ({ cls := "HatsDecide", name := "day", desc := "()I" } : Jvm.MethodName)) ∈ lw_all := lw_g (lw_at lw_m5 10 rfl) rfl
theorem q1079 : (Jvm.Cond.methodLink "HatsDecideLaw" (66 : Nat) ({ cls := "HatsDecide", name := "gust", desc := "(I)I" } : Jvm.MethodName)) ∈ lw_all := lw_g (lw_at lw_m5 24 rfl) rfl
theorem q1094 : (Jvm.Cond.methodLink "HatsDecideLaw" (70 : Nat) ({ cls := "HatsDecide", name := "change", desc := "(II)I" } : Jvm.MethodName)) ∈ lw_all := lw_g (lw_at lw_m5 39 rfl) rfl
theorem q1102 : (Jvm.Cond.methodLink "HatsDecideLaw" (74 : Nat) ({ cls := "HatsDecide", name := "today", desc := "(I)I" } : Jvm.MethodName)) ∈ lw_all := lw_g (lw_at lw_m5 47 rfl) rfl
theorem q1106 : (Jvm.Cond.methodLink "HatsDecideLaw" (78 : Nat) ({ cls := "HatsDecide", name := "enough", desc := "()I" } : Jvm.MethodName)) ∈ lw_all := lw_g (lw_at lw_m5 51 rfl) rfl
theorem q1114 : (Jvm.Cond.methodLink "HatsDecideLaw" (82 : Nat) ({ cls := "HatsDecide", name := "best", desc := "(I)I" } : Jvm.MethodName)) ∈ lw_all := lw_g (lw_at lw_m5 59 rfl) rfl
theorem q1118 : (Jvm.Cond.methodLink "HatsDecideLaw" (86 : Nat) ({ cls := "HatsDecide", name := "on", desc := "(II)I" } : Jvm.MethodName)) ∈ lw_all := lw_g (lw_at lw_m5 63 rfl) rfl
theorem q1127 : (Jvm.Cond.methodLink "HatsDecideLaw" (90 : Nat) ({ cls := "HatsDecide", name := "lasts", desc := "(I)I" } : Jvm.MethodName)) ∈ lw_all := lw_g (lw_at lw_m5 72 rfl) rfl
theorem q1131 : (Jvm.Cond.methodLink "HatsDecideLaw" (94 : Nat) ({ cls := "HatsDecide", name := "by", desc := "(I)I" } : Jvm.MethodName)) ∈ lw_all := lw_g (lw_at lw_m5 76 rfl) rfl
theorem q1144 : (Jvm.Cond.methodLink "HatsDecideLaw" (98 : Nat) ({ cls := "HatsDecide", name := "can", desc := "()I" } : Jvm.MethodName)) ∈ lw_all := lw_g (lw_at lw_m5 89 rfl) rfl
theorem q1153 : (Jvm.Cond.methodLink "HatsDecideLaw" (102 : Nat) ({ cls := "HatsDecide", name := "back", desc := "()I" } : Jvm.MethodName)) ∈ lw_all := lw_g (lw_at lw_m5 98 rfl) rfl
theorem q1165 : (Jvm.Cond.methodLink "HatsDecideLaw" (106 : Nat) ({ cls := "HatsDecide", name := "gusted", desc := "(I)I" } : Jvm.MethodName)) ∈ lw_all := lw_g (lw_at lw_m5 110 rfl) rfl
theorem q1173 : (Jvm.Cond.methodLink "HatsDecideLaw" (110 : Nat) ({ cls := "HatsDecide", name := "lucky", desc := "()I" } : Jvm.MethodName)) ∈ lw_all := lw_g (lw_at lw_m5 118 rfl) rfl
theorem q1177 : (Jvm.Cond.methodLink "HatsDecideLaw" (114 : Nat) ({ cls := "HatsDecide", name := "swap", desc := "()I" } : Jvm.MethodName)) ∈ lw_all := lw_g (lw_at lw_m5 122 rfl) rfl
theorem q1181 : (Jvm.Cond.methodLink "HatsDecideLaw" (118 : Nat) ({ cls := "HatsDecide", name := "quarrel", desc := "(III)I" } : Jvm.MethodName)) ∈ lw_all := lw_g (lw_at lw_m5 126 rfl) rfl
theorem q1185 : (Jvm.Cond.methodLink "HatsDecideLaw" (122 : Nat) ({ cls := "HatsDecide", name := "how", desc := "(I)I" } : Jvm.MethodName)) ∈ lw_all := lw_g (lw_at lw_m5 130 rfl) rfl
theorem q1189 : (Jvm.Cond.methodLink "HatsDecideLaw" (126 : Nat) ({ cls := "HatsDecide", name := "see", desc := "(II)I" } : Jvm.MethodName)) ∈ lw_all := lw_g (lw_at lw_m5 134 rfl) rfl
theorem q1193 : (Jvm.Cond.methodLink "HatsDecideLaw" (130 : Nat) ({ cls := "HatsDecide", name := "wore", desc := "(I)I" } : Jvm.MethodName)) ∈ lw_all := lw_g (lw_at lw_m5 138 rfl) rfl
theorem q1205 : (Jvm.Cond.methodLink "HatsDecideLaw" (134 : Nat) ({ cls := "HatsDecide", name := "who", desc := "()I" } : Jvm.MethodName)) ∈ lw_all := lw_g (lw_at lw_m5 150 rfl) rfl
theorem q1217 : (Jvm.Cond.methodLink "HatsDecideLaw" (138 : Nat) ({ cls := "HatsDecide", name := "odds", desc := "(II)J" } : Jvm.MethodName)) ∈ lw_all := lw_g (lw_at lw_m5 162 rfl) rfl
theorem q1228 : (Jvm.Cond.methodLink "HatsDecideLaw" (143 : Nat) ({ cls := "HatsDecide", name := "mean", desc := "(II)J" } : Jvm.MethodName)) ∈ lw_all := lw_g (lw_at lw_m5 173 rfl) rfl
theorem q1232 : (Jvm.Cond.methodLink "HatsDecideLaw" (147 : Nat) ({ cls := "HatsDecide", name := "book", desc := "(II)I" } : Jvm.MethodName)) ∈ lw_all := lw_g (lw_at lw_m5 177 rfl) rfl
theorem q1236 : (Jvm.Cond.methodLink "HatsDecideLaw" (151 : Nat) ({ cls := "HatsDecide", name := "looked", desc := "()I" } : Jvm.MethodName)) ∈ lw_all := lw_g (lw_at lw_m5 181 rfl) rfl
theorem q1240 : (Jvm.Cond.methodLink "HatsDecideLaw" (155 : Nat) ({ cls := "HatsDecide", name := "judge", desc := "(II)I" } : Jvm.MethodName)) ∈ lw_all := lw_g (lw_at lw_m5 185 rfl) rfl
theorem q1299 : (Jvm.Cond.methodLink "HatsDecideLaw" (159 : Nat) ({ cls := "HatsDecide", name := "image", desc := "()I" } : Jvm.MethodName)) ∈ lw_all := lw_g (lw_at lw_m6 4 rfl) rfl
theorem q1303 : (Jvm.Cond.methodLink "HatsDecideLaw" (163 : Nat) ({ cls := "HatsDecide", name := "undo", desc := "()I" } : Jvm.MethodName)) ∈ lw_all := lw_g (lw_at lw_m6 8 rfl) rfl
theorem q1307 : (Jvm.Cond.methodLink "HatsDecideLaw" (167 : Nat) ({ cls := "HatsDecide", name := "act", desc := "(III)I" } : Jvm.MethodName)) ∈ lw_all := lw_g (lw_at lw_m6 12 rfl) rfl
theorem q1390 : (Jvm.Cond.methodLink "HatsDecideLaw" (171 : Nat) ({ cls := "HatsDecide", name := "trace", desc := "(I)I" } : Jvm.MethodName)) ∈ lw_all := lw_g (lw_at lw_m6 95 rfl) rfl
theorem q1394 : (Jvm.Cond.methodLink "HatsDecideLaw" (175 : Nat) ({ cls := "HatsDecide", name := "taken", desc := "(II)I" } : Jvm.MethodName)) ∈ lw_all := lw_g (lw_at lw_m6 99 rfl) rfl
theorem q1401 : (Jvm.Cond.methodLink "HatsDecideLaw" (179 : Nat) ({ cls := "HatsDecide", name := "count", desc := "(I)I" } : Jvm.MethodName)) ∈ lw_all := lw_g (lw_at lw_m6 106 rfl) rfl
theorem q1405 : (Jvm.Cond.methodLink "HatsDecideLaw" (183 : Nat) ({ cls := "HatsDecide", name := "tape", desc := "(III)I" } : Jvm.MethodName)) ∈ lw_all := lw_g (lw_at lw_m6 110 rfl) rfl
theorem q1429 : (Jvm.Cond.methodLink "HatsDecideLaw" (189 : Nat) ({ cls := "HatsDecide", name := "item", desc := "(IIJ)I" } : Jvm.MethodName)) ∈ lw_all := lw_g (lw_at lw_m6 134 rfl) rfl
theorem q1453 : (Jvm.Cond.methodLink "HatsDecideLaw" (194 : Nat) ({ cls := "HatsDecide", name := "read", desc := "(II)J" } : Jvm.MethodName)) ∈ lw_all := lw_g (lw_at lw_m6 158 rfl) rfl
theorem q1458 : (Jvm.Cond.methodLink "HatsDecideLaw" (198 : Nat) ({ cls := "HatsDecide", name := "shift", desc := "(IIIII)I" } : Jvm.MethodName)) ∈ lw_all := lw_g (lw_at lw_m6 163 rfl) rfl
theorem q1495 : (Jvm.Cond.classLink "HatsDecideLaw" (10 : Nat) "HatsDecideModel") ∈ lw_all := lw_g (lw_at lw_m6 200 rfl) rfl
theorem q1497 : (Jvm.Cond.methodLink "HatsDecideLaw" (12 : Nat) ({ cls := "HatsDecideModel", name := "<init>", desc := "()V" } : Jvm.MethodName)) ∈ lw_all := lw_g (lw_at lw_m6 202 rfl) rfl
theorem q1736 : (Jvm.Cond.methodLink "HatsDecideLaw" (17 : Nat) ({ cls := "HatsDecideModel", name := "head", desc := "(I)I" } : Jvm.MethodName)) ∈ lw_all := lw_g (lw_at lw_m7 201 rfl) rfl
theorem q1744 : (Jvm.Cond.methodLink "HatsDecideLaw" (22 : Nat) ({ cls := "HatsDecideModel", name := "hat", desc := "(IIIII)I" } : Jvm.MethodName)) ∈ lw_all := lw_g (lw_at lw_m7 209 rfl) rfl
theorem q1752 : (Jvm.Cond.methodLink "HatsDecideLaw" (36 : Nat) ({ cls := "HatsDecideModel", name := "row", desc := "(III)I" } : Jvm.MethodName)) ∈ lw_all := lw_g (lw_at lw_m7 217 rfl) rfl
theorem q1760 : (Jvm.Cond.methodLink "HatsDecideLaw" (40 : Nat) ({ cls := "HatsDecideModel", name := "put", desc := "(II)I" } : Jvm.MethodName)) ∈ lw_all := lw_g (lw_at lw_m7 225 rfl) rfl
theorem q1772 : (Jvm.Cond.methodLink "HatsDecideLaw" (44 : Nat) ({ cls := "HatsDecideModel", name := "own", desc := "(II)I" } : Jvm.MethodName)) ∈ lw_all := lw_g (lw_at lw_m7 237 rfl) rfl
theorem q1780 : (Jvm.Cond.methodLink "HatsDecideLaw" (48 : Nat) ({ cls := "HatsDecideModel", name := "skill", desc := "(II)I" } : Jvm.MethodName)) ∈ lw_all := lw_g (lw_at lw_m8 5 rfl) rfl
theorem q1784 : (Jvm.Cond.methodLink "HatsDecideLaw" (52 : Nat) ({ cls := "HatsDecideModel", name := "feed", desc := "(I)I" } : Jvm.MethodName)) ∈ lw_all := lw_g (lw_at lw_m8 9 rfl) rfl
theorem q1788 : (Jvm.Cond.methodLink "HatsDecideLaw" (57 : Nat) ({ cls := "HatsDecideModel", name := "town", desc := "()I" } : Jvm.MethodName)) ∈ lw_all := lw_g (lw_at lw_m8 13 rfl) rfl
theorem q1848 : (Jvm.Cond.methodLink "HatsDecideLaw" (27 : Nat) ({ cls := "HatsDecideModel", name := "of", desc := "(II)I" } : Jvm.MethodName)) ∈ lw_all := lw_g (lw_at lw_m8 73 rfl) rfl
theorem q1888 : (Jvm.Cond.methodLink "HatsDecideLaw" (31 : Nat) ({ cls := "HatsDecideModel", name := "at", desc := "(II)I" } : Jvm.MethodName)) ∈ lw_all := lw_g (lw_at lw_m8 113 rfl) rfl
theorem q1892 : (Jvm.Cond.methodLink "HatsDecideLaw" (61 : Nat) ({ cls := "HatsDecideModel", name := "told", desc := "(I)I" } : Jvm.MethodName)) ∈ lw_all := lw_g (lw_at lw_m8 117 rfl) rfl
theorem q1900 : (Jvm.Cond.methodLink "HatsDecideLaw" (65 : Nat) ({ cls := "HatsDecideModel", name := "day", desc := "()I" } : Jvm.MethodName)) ∈ lw_all := lw_g (lw_at lw_m8 125 rfl) rfl
theorem q1913 : (Jvm.Cond.methodLink "HatsDecideLaw" (69 : Nat) ({ cls := "HatsDecideModel", name := "gust", desc := "(I)I" } : Jvm.MethodName)) ∈ lw_all := lw_g (lw_at lw_m8 138 rfl) rfl
theorem q1921 : (Jvm.Cond.methodLink "HatsDecideLaw" (73 : Nat) ({ cls := "HatsDecideModel", name := "change", desc := "(II)I" } : Jvm.MethodName)) ∈ lw_all := lw_g (lw_at lw_m8 146 rfl) rfl
theorem q1929 : (Jvm.Cond.methodLink "HatsDecideLaw" (77 : Nat) ({ cls := "HatsDecideModel", name := "today", desc := "(I)I" } : Jvm.MethodName)) ∈ lw_all := lw_g (lw_at lw_m8 154 rfl) rfl
theorem q1933 : (Jvm.Cond.methodLink "HatsDecideLaw" (81 : Nat) ({ cls := "HatsDecideModel", name := "enough", desc := "()I" } : Jvm.MethodName)) ∈ lw_all := lw_g (lw_at lw_m8 158 rfl) rfl
theorem q1937 : (Jvm.Cond.methodLink "HatsDecideLaw" (85 : Nat) ({ cls := "HatsDecideModel", name := "best", desc := "(I)I" } : Jvm.MethodName)) ∈ lw_all := lw_g (lw_at lw_m8 162 rfl) rfl
theorem q1941 : (Jvm.Cond.methodLink "HatsDecideLaw" (89 : Nat) ({ cls := "HatsDecideModel", name := "on", desc := "(II)I" } : Jvm.MethodName)) ∈ lw_all := lw_g (lw_at lw_m8 166 rfl) rfl
theorem q1954 : (Jvm.Cond.methodLink "HatsDecideLaw" (93 : Nat) ({ cls := "HatsDecideModel", name := "lasts", desc := "(I)I" } : Jvm.MethodName)) ∈ lw_all := lw_g (lw_at lw_m8 179 rfl) rfl
theorem q1958 : (Jvm.Cond.methodLink "HatsDecideLaw" (97 : Nat) ({ cls := "HatsDecideModel", name := "by", desc := "(I)I" } : Jvm.MethodName)) ∈ lw_all := lw_g (lw_at lw_m8 183 rfl) rfl
theorem q1982 : (Jvm.Cond.methodLink "HatsDecideLaw" (101 : Nat) ({ cls := "HatsDecideModel", name := "can", desc := "()I" } : Jvm.MethodName)) ∈ lw_all := lw_g (lw_at lw_m8 207 rfl) rfl
theorem q1990 : (Jvm.Cond.methodLink "HatsDecideLaw" (105 : Nat) ({ cls := "HatsDecideModel", name := "back", desc := "()I" } : Jvm.MethodName)) ∈ lw_all := lw_g (lw_at lw_m8 215 rfl) rfl
theorem q2006 : (Jvm.Cond.methodLink "HatsDecideLaw" (109 : Nat) ({ cls := "HatsDecideModel", name := "gusted", desc := "(I)I" } : Jvm.MethodName)) ∈ lw_all := lw_g (lw_at lw_m8 231 rfl) rfl
theorem q2014 : (Jvm.Cond.methodLink "HatsDecideLaw" (113 : Nat) ({ cls := "HatsDecideModel", name := "lucky", desc := "()I" } : Jvm.MethodName)) ∈ lw_all := lw_g (lw_at lw_m8 239 rfl) rfl
theorem q2018 : (Jvm.Cond.methodLink "HatsDecideLaw" (117 : Nat) ({ cls := "HatsDecideModel", name := "swap", desc := "()I" } : Jvm.MethodName)) ∈ lw_all := lw_g (lw_at lw_m9 3 rfl) rfl
theorem q2022 : (Jvm.Cond.methodLink "HatsDecideLaw" (121 : Nat) ({ cls := "HatsDecideModel", name := "quarrel", desc := "(III)I" } : Jvm.MethodName)) ∈ lw_all := lw_g (lw_at lw_m9 7 rfl) rfl
theorem q2026 : (Jvm.Cond.methodLink "HatsDecideLaw" (125 : Nat) ({ cls := "HatsDecideModel", name := "how", desc := "(I)I" } : Jvm.MethodName)) ∈ lw_all := lw_g (lw_at lw_m9 11 rfl) rfl
theorem q2030 : (Jvm.Cond.methodLink "HatsDecideLaw" (129 : Nat) ({ cls := "HatsDecideModel", name := "see", desc := "(II)I" } : Jvm.MethodName)) ∈ lw_all := lw_g (lw_at lw_m9 15 rfl) rfl
theorem q2034 : (Jvm.Cond.methodLink "HatsDecideLaw" (133 : Nat) ({ cls := "HatsDecideModel", name := "wore", desc := "(I)I" } : Jvm.MethodName)) ∈ lw_all := lw_g (lw_at lw_m9 19 rfl) rfl
theorem q2042 : (Jvm.Cond.methodLink "HatsDecideLaw" (137 : Nat) ({ cls := "HatsDecideModel", name := "who", desc := "()I" } : Jvm.MethodName)) ∈ lw_all := lw_g (lw_at lw_m9 27 rfl) rfl
theorem q2046 : (Jvm.Cond.methodLink "HatsDecideLaw" (142 : Nat) ({ cls := "HatsDecideModel", name := "odds", desc := "(II)J" } : Jvm.MethodName)) ∈ lw_all := lw_g (lw_at lw_m9 31 rfl) rfl
theorem q2059 : (Jvm.Cond.methodLink "HatsDecideLaw" (146 : Nat) ({ cls := "HatsDecideModel", name := "mean", desc := "(II)J" } : Jvm.MethodName)) ∈ lw_all := lw_g (lw_at lw_m9 44 rfl) rfl
theorem q2063 : (Jvm.Cond.methodLink "HatsDecideLaw" (150 : Nat) ({ cls := "HatsDecideModel", name := "book", desc := "(II)I" } : Jvm.MethodName)) ∈ lw_all := lw_g (lw_at lw_m9 48 rfl) rfl
theorem q2067 : (Jvm.Cond.methodLink "HatsDecideLaw" (154 : Nat) ({ cls := "HatsDecideModel", name := "looked", desc := "()I" } : Jvm.MethodName)) ∈ lw_all := lw_g (lw_at lw_m9 52 rfl) rfl
theorem q2071 : (Jvm.Cond.methodLink "HatsDecideLaw" (158 : Nat) ({ cls := "HatsDecideModel", name := "judge", desc := "(II)I" } : Jvm.MethodName)) ∈ lw_all := lw_g (lw_at lw_m9 56 rfl) rfl
theorem q2079 : (Jvm.Cond.methodLink "HatsDecideLaw" (162 : Nat) ({ cls := "HatsDecideModel", name := "image", desc := "()I" } : Jvm.MethodName)) ∈ lw_all := lw_g (lw_at lw_m9 64 rfl) rfl
theorem q2083 : (Jvm.Cond.methodLink "HatsDecideLaw" (166 : Nat) ({ cls := "HatsDecideModel", name := "undo", desc := "()I" } : Jvm.MethodName)) ∈ lw_all := lw_g (lw_at lw_m9 68 rfl) rfl
theorem q2087 : (Jvm.Cond.methodLink "HatsDecideLaw" (170 : Nat) ({ cls := "HatsDecideModel", name := "act", desc := "(III)I" } : Jvm.MethodName)) ∈ lw_all := lw_g (lw_at lw_m9 72 rfl) rfl
theorem q2123 : (Jvm.Cond.methodLink "HatsDecideLaw" (174 : Nat) ({ cls := "HatsDecideModel", name := "trace", desc := "(I)I" } : Jvm.MethodName)) ∈ lw_all := lw_g (lw_at lw_m9 108 rfl) rfl
theorem q2127 : (Jvm.Cond.methodLink "HatsDecideLaw" (178 : Nat) ({ cls := "HatsDecideModel", name := "taken", desc := "(II)I" } : Jvm.MethodName)) ∈ lw_all := lw_g (lw_at lw_m9 112 rfl) rfl
theorem q2131 : (Jvm.Cond.methodLink "HatsDecideLaw" (182 : Nat) ({ cls := "HatsDecideModel", name := "count", desc := "(I)I" } : Jvm.MethodName)) ∈ lw_all := lw_g (lw_at lw_m9 116 rfl) rfl
theorem q2135 : (Jvm.Cond.methodLink "HatsDecideLaw" (186 : Nat) ({ cls := "HatsDecideModel", name := "tape", desc := "(III)I" } : Jvm.MethodName)) ∈ lw_all := lw_g (lw_at lw_m9 120 rfl) rfl
theorem q2139 : (Jvm.Cond.methodLink "HatsDecideLaw" (193 : Nat) ({ cls := "HatsDecideModel", name := "item", desc := "(IIJ)I" } : Jvm.MethodName)) ∈ lw_all := lw_g (lw_at lw_m9 124 rfl) rfl
theorem q2147 : (Jvm.Cond.methodLink "HatsDecideLaw" (197 : Nat) ({ cls := "HatsDecideModel", name := "read", desc := "(II)J" } : Jvm.MethodName)) ∈ lw_all := lw_g (lw_at lw_m9 132 rfl) rfl
theorem q2151 : (Jvm.Cond.methodLink "HatsDecideLaw" (201 : Nat) ({ cls := "HatsDecideModel", name := "shift", desc := "(IIIII)I" } : Jvm.MethodName)) ∈ lw_all := lw_g (lw_at lw_m9 136 rfl) rfl
theorem q2155 : (Jvm.Cond.constantLong "HatsDecideLaw" (187 : Nat) (4294967295 : Int64)) ∈ lw_all := lw_g (lw_at lw_m9 140 rfl) rfl

theorem q1088 : (Jvm.Cond.sameMethod "[B" "java/lang/Object" "clone" "()Ljava/lang/Object;") ∈ lw_all := lw_g (lw_at lw_m5 33 rfl) rfl
set_option maxRecDepth 100000
theorem q1091 : (Jvm.Cond.selects "[B" ({ cls := "[B", name := "clone", desc := "()Ljava/lang/Object;" } : Jvm.MethodName) ({ cls := "java/lang/Object", name := "clone", desc := "()Ljava/lang/Object;" } : Jvm.MethodName)) ∈ lw_all := lw_g (lw_at lw_m5 36 rfl) rfl
theorem q1092 : (Jvm.Cond.castable "[B" "java/lang/Cloneable") ∈ lw_tbl := lw_at lw_m5 37 rfl
theorem q2207 : (Jvm.Cond.castable "[B" "java/lang/Object") ∈ lw_tbl := lw_at lw_m9 192 rfl

theorem q2206 : (Jvm.Cond.castable "[I" "java/lang/Object") ∈ lw_tbl := lw_at lw_m9 191 rfl
set_option maxRecDepth 100000

theorem q2211 : (Jvm.Cond.castable "[J" "java/lang/Object") ∈ lw_tbl := lw_at lw_m9 196 rfl
set_option maxRecDepth 100000

theorem q2205 : (Jvm.Cond.castable "[LHatsDecide$Hat;" "java/lang/Object") ∈ lw_tbl := lw_at lw_m9 190 rfl
set_option maxRecDepth 100000

theorem q2208 : (Jvm.Cond.castable "[LHatsDecide$Tape;" "java/lang/Object") ∈ lw_tbl := lw_at lw_m9 193 rfl
set_option maxRecDepth 100000

theorem q2202 : (Jvm.Cond.sameMethod "[Ljava/lang/Object;" "java/lang/Object" "getClass" "()Ljava/lang/Class;") ∈ lw_all := lw_g (lw_at lw_m9 187 rfl) rfl
set_option maxRecDepth 100000
theorem q2203 : (Jvm.Cond.selects "[Ljava/lang/Object;" ({ cls := "java/lang/Object", name := "getClass", desc := "()Ljava/lang/Class;" } : Jvm.MethodName) ({ cls := "java/lang/Object", name := "getClass", desc := "()Ljava/lang/Class;" } : Jvm.MethodName)) ∈ lw_all := lw_g (lw_at lw_m9 188 rfl) rfl
theorem q2209 : (Jvm.Cond.castable "[Ljava/lang/Object;" "java/lang/Object") ∈ lw_tbl := lw_at lw_m9 194 rfl

theorem q2210 : (Jvm.Cond.castable "[S" "java/lang/Object") ∈ lw_tbl := lw_at lw_m9 195 rfl
set_option maxRecDepth 100000

theorem q2212 : (Jvm.Cond.castable "[Z" "java/lang/Object") ∈ lw_tbl := lw_at lw_m9 197 rfl
set_option maxRecDepth 100000

theorem q131 : (Jvm.Cond.initialized "java/lang/System") ∈ lw_all := lw_g (lw_at lw_m1 36 rfl) rfl
set_option maxRecDepth 100000
theorem q1037 : (Jvm.Cond.static ({ cls := "java/lang/System", name := "arraycopy", desc := "(Ljava/lang/Object;ILjava/lang/Object;II)V" } : Jvm.MethodName)) ∈ lw_all := lw_g (lw_at lw_m4 222 rfl) rfl
theorem q1038 : (Jvm.Cond.native ({ cls := "java/lang/System", name := "arraycopy", desc := "(Ljava/lang/Object;ILjava/lang/Object;II)V" } : Jvm.MethodName)) ∈ lw_all := lw_g (lw_at lw_m4 223 rfl) rfl

theorem q147 : (Jvm.Cond.arrayOver (Jvm.ClassFile.FieldType.object "HatsDecide$Hat")) ∈ lw_tbl := lw_at lw_m1 52 rfl
set_option maxRecDepth 100000
theorem q171 : (Jvm.Cond.arrayClass Jvm.ClassFile.FieldType.int) ∈ lw_all := lw_g (lw_at lw_m1 76 rfl) rfl
theorem q172 : (Jvm.Cond.arrayClass Jvm.ClassFile.FieldType.byte) ∈ lw_all := lw_g (lw_at lw_m1 77 rfl) rfl
theorem q270 : (Jvm.Cond.arrayOver (Jvm.ClassFile.FieldType.object "HatsDecide$Tape")) ∈ lw_tbl := lw_at lw_m1 175 rfl
theorem q1031 : (Jvm.Cond.arrayOver (Jvm.ClassFile.FieldType.object "java/lang/Object")) ∈ lw_tbl := lw_at lw_m4 216 rfl
theorem q1426 : (Jvm.Cond.arrayClass Jvm.ClassFile.FieldType.short) ∈ lw_all := lw_g (lw_at lw_m6 131 rfl) rfl
theorem q1427 : (Jvm.Cond.arrayClass Jvm.ClassFile.FieldType.long) ∈ lw_all := lw_g (lw_at lw_m6 132 rfl) rfl
theorem q1428 : (Jvm.Cond.arrayClass Jvm.ClassFile.FieldType.boolean) ∈ lw_all := lw_g (lw_at lw_m6 133 rfl) rfl
