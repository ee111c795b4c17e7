/-! java/util/AbstractCollection -/
set_option maxRecDepth 100000
def RJ0 : String := "java/util/AbstractCollection"
abbrev cJ0_init : ByteArray := prog_37_method_1_code
def yJ0_init : MethodName := ⟨RJ0, "<init>", "()V"⟩
theorem dJ0_init_0 : decode cJ0_init 0 = .ok (.aload_n 0, 1) := by decide +kernel
theorem dJ0_init_1 : decode cJ0_init 1 = .ok (.invokespecial 1, 3) := by decide +kernel
theorem dJ0_init_4 : decode cJ0_init 4 = .ok (.return_, 1) := by decide +kernel
theorem q138 : (Jvm.Cond.initialized "java/util/AbstractCollection") ∈ lw_all := lw_g (lw_at lw_m1 3 rfl) rfl
theorem q249 : (Jvm.Cond.instanceMethod ({ cls := "java/util/AbstractCollection", name := "<init>", desc := "()V" } : Jvm.MethodName)) ∈ lw_all := lw_g (lw_at lw_m1 114 rfl) rfl
theorem q250 : (Jvm.Cond.code ({ cls := "java/util/AbstractCollection", name := "<init>", desc := "()V" } : Jvm.MethodName) prog_37_method_1_code (1 : Nat) (Option.none : Option Jvm.ClassFile.FieldType)) ∈ lw_all := lw_g (lw_at lw_m1 115 rfl) rfl
theorem q251 : (Jvm.Cond.methodLink "java/util/AbstractCollection" (1 : Nat) ({ cls := "java/lang/Object", name := "<init>", desc := "()V" } : Jvm.MethodName)) ∈ lw_all := lw_g (lw_at lw_m1 116 rfl) rfl

/-! java/util/AbstractList -/
set_option maxRecDepth 100000
def RJ1 : String := "java/util/AbstractList"
abbrev cJ1_init : ByteArray := prog_38_method_1_code
def yJ1_init : MethodName := ⟨RJ1, "<init>", "()V"⟩
def dkwJ1_init_0 : List UInt8 := [42, 183, 0, 1, 42, 3, 181, 0, 7, 177]
abbrev dktJ1_init_0 : List UInt8 := dkwJ1_init_0 ++ []
theorem dksJ1_init_0 : cJ1_init.data.toList.drop 0 = dktJ1_init_0 := by decide +kernel
theorem dJ1_init_0 : decode cJ1_init 0 = .ok (.aload_n 0, 1) := dk_42 (dk_at dksJ1_init_0 0 rfl rfl)
theorem dJ1_init_1 : decode cJ1_init 1 = .ok (.invokespecial 1, 3) := dk_183 0 1 (dk_at dksJ1_init_0 1 rfl rfl)
theorem dJ1_init_4 : decode cJ1_init 4 = .ok (.aload_n 0, 1) := dk_42 (dk_at dksJ1_init_0 4 rfl rfl)
theorem dJ1_init_5 : decode cJ1_init 5 = .ok (.iconst 0, 1) := dk_3 (dk_at dksJ1_init_0 5 rfl rfl)
theorem dJ1_init_6 : decode cJ1_init 6 = .ok (.putfield 7, 3) := dk_181 0 7 (dk_at dksJ1_init_0 6 rfl rfl)
theorem dJ1_init_9 : decode cJ1_init 9 = .ok (.return_, 1) := dk_177 (dk_at dksJ1_init_0 9 rfl rfl)
theorem q139 : (Jvm.Cond.initialized "java/util/AbstractList") ∈ lw_all := lw_g (lw_at lw_m1 4 rfl) rfl
theorem q246 : (Jvm.Cond.instanceMethod ({ cls := "java/util/AbstractList", name := "<init>", desc := "()V" } : Jvm.MethodName)) ∈ lw_all := lw_g (lw_at lw_m1 111 rfl) rfl
theorem q247 : (Jvm.Cond.code ({ cls := "java/util/AbstractList", name := "<init>", desc := "()V" } : Jvm.MethodName) prog_38_method_1_code (1 : Nat) (Option.none : Option Jvm.ClassFile.FieldType)) ∈ lw_all := lw_g (lw_at lw_m1 112 rfl) rfl
theorem q248 : (Jvm.Cond.methodLink "java/util/AbstractList" (1 : Nat) ({ cls := "java/util/AbstractCollection", name := "<init>", desc := "()V" } : Jvm.MethodName)) ∈ lw_all := lw_g (lw_at lw_m1 113 rfl) rfl
theorem q256 : (Jvm.Cond.fieldLink "java/util/AbstractList" (7 : Nat) "java/util/AbstractList" "modCount" "I") ∈ lw_all := lw_g (lw_at lw_m1 121 rfl) rfl
theorem q264 : (Jvm.Cond.soleField "java/util/AbstractList" "modCount") ∈ lw_all := lw_g (lw_at lw_m1 129 rfl) rfl

/-! jdk/internal/util/ArraysSupport -/
set_option maxRecDepth 100000
def RJ10 : String := "jdk/internal/util/ArraysSupport"
abbrev cJ10_newLength : ByteArray := prog_46_method_27_code
def yJ10_newLength : MethodName := ⟨RJ10, "newLength", "(III)I"⟩
def dkwJ10_newLength_1 : List UInt8 := [184, 0, 201, 172]
abbrev dktJ10_newLength_1 : List UInt8 := dkwJ10_newLength_1 ++ []
def dkwJ10_newLength_0 : List UInt8 := [26, 27, 28, 184, 0, 194, 96, 62, 3, 29, 162, 0, 11, 29, 18, 200, 163, 0, 5, 29, 172, 26, 27]
abbrev dktJ10_newLength_0 : List UInt8 := dkwJ10_newLength_0 ++ dktJ10_newLength_1
theorem dksJ10_newLength_0 : cJ10_newLength.data.toList.drop 0 = dktJ10_newLength_0 := by decide +kernel
theorem dksJ10_newLength_1 : cJ10_newLength.data.toList.drop 23 = dktJ10_newLength_1 := dk_seg dksJ10_newLength_0 23 rfl rfl
theorem dJ10_newLength_0 : decode cJ10_newLength 0 = .ok (.iload_n 0, 1) := dk_26 (dk_at dksJ10_newLength_0 0 rfl rfl)
theorem dJ10_newLength_1 : decode cJ10_newLength 1 = .ok (.iload_n 1, 1) := dk_27 (dk_at dksJ10_newLength_0 1 rfl rfl)
theorem dJ10_newLength_2 : decode cJ10_newLength 2 = .ok (.iload_n 2, 1) := dk_28 (dk_at dksJ10_newLength_0 2 rfl rfl)
theorem dJ10_newLength_3 : decode cJ10_newLength 3 = .ok (.invokestatic 194, 3) := dk_184 0 194 (dk_at dksJ10_newLength_0 3 rfl rfl)
theorem dJ10_newLength_6 : decode cJ10_newLength 6 = .ok (.iadd, 1) := dk_96 (dk_at dksJ10_newLength_0 6 rfl rfl)
theorem dJ10_newLength_7 : decode cJ10_newLength 7 = .ok (.istore_n 3, 1) := dk_62 (dk_at dksJ10_newLength_0 7 rfl rfl)
theorem dJ10_newLength_8 : decode cJ10_newLength 8 = .ok (.iconst 0, 1) := dk_3 (dk_at dksJ10_newLength_0 8 rfl rfl)
theorem dJ10_newLength_9 : decode cJ10_newLength 9 = .ok (.iload_n 3, 1) := dk_29 (dk_at dksJ10_newLength_0 9 rfl rfl)
theorem dJ10_newLength_10 : decode cJ10_newLength 10 = .ok (.if_icmp .ge 11, 3) := dk_162 0 11 (dk_at dksJ10_newLength_0 10 rfl rfl)
theorem dJ10_newLength_13 : decode cJ10_newLength 13 = .ok (.iload_n 3, 1) := dk_29 (dk_at dksJ10_newLength_0 13 rfl rfl)
theorem dJ10_newLength_14 : decode cJ10_newLength 14 = .ok (.ldc 200, 2) := dk_18 200 (dk_at dksJ10_newLength_0 14 rfl rfl)
theorem dJ10_newLength_16 : decode cJ10_newLength 16 = .ok (.if_icmp .gt 5, 3) := dk_163 0 5 (dk_at dksJ10_newLength_0 16 rfl rfl)
theorem dJ10_newLength_19 : decode cJ10_newLength 19 = .ok (.iload_n 3, 1) := dk_29 (dk_at dksJ10_newLength_0 19 rfl rfl)
theorem dJ10_newLength_20 : decode cJ10_newLength 20 = .ok (.ireturn, 1) := dk_172 (dk_at dksJ10_newLength_0 20 rfl rfl)
theorem dJ10_newLength_21 : decode cJ10_newLength 21 = .ok (.iload_n 0, 1) := dk_26 (dk_at dksJ10_newLength_0 21 rfl rfl)
theorem dJ10_newLength_22 : decode cJ10_newLength 22 = .ok (.iload_n 1, 1) := dk_27 (dk_at dksJ10_newLength_0 22 rfl rfl)
theorem dJ10_newLength_23 : decode cJ10_newLength 23 = .ok (.invokestatic 201, 3) := dk_184 0 201 (dk_at dksJ10_newLength_1 0 rfl rfl)
theorem dJ10_newLength_26 : decode cJ10_newLength 26 = .ok (.ireturn, 1) := dk_172 (dk_at dksJ10_newLength_1 3 rfl rfl)
abbrev cJ10_hugeLength : ByteArray := prog_46_method_28_code
def yJ10_hugeLength : MethodName := ⟨RJ10, "hugeLength", "(II)I"⟩
def dkwJ10_hugeLength_2 : List UInt8 := [191, 28, 18, 200, 163, 0, 6, 18, 200, 172, 28, 172]
abbrev dktJ10_hugeLength_2 : List UInt8 := dkwJ10_hugeLength_2 ++ []
def dkwJ10_hugeLength_1 : List UInt8 := [26, 182, 0, 98, 18, 208, 182, 0, 94, 27, 182, 0, 98, 18, 210, 182, 0, 94, 182, 0, 101, 183, 0, 212]
abbrev dktJ10_hugeLength_1 : List UInt8 := dkwJ10_hugeLength_1 ++ dktJ10_hugeLength_2
def dkwJ10_hugeLength_0 : List UInt8 := [26, 27, 96, 61, 28, 156, 0, 44, 187, 0, 204, 89, 187, 0, 89, 89, 183, 0, 91, 18, 206, 182, 0, 94]
abbrev dktJ10_hugeLength_0 : List UInt8 := dkwJ10_hugeLength_0 ++ dktJ10_hugeLength_1
theorem dksJ10_hugeLength_0 : cJ10_hugeLength.data.toList.drop 0 = dktJ10_hugeLength_0 := by decide +kernel
theorem dksJ10_hugeLength_1 : cJ10_hugeLength.data.toList.drop 24 = dktJ10_hugeLength_1 := dk_seg dksJ10_hugeLength_0 24 rfl rfl
theorem dksJ10_hugeLength_2 : cJ10_hugeLength.data.toList.drop 48 = dktJ10_hugeLength_2 := dk_seg dksJ10_hugeLength_1 24 rfl rfl
theorem dJ10_hugeLength_0 : decode cJ10_hugeLength 0 = .ok (.iload_n 0, 1) := dk_26 (dk_at dksJ10_hugeLength_0 0 rfl rfl)
theorem dJ10_hugeLength_1 : decode cJ10_hugeLength 1 = .ok (.iload_n 1, 1) := dk_27 (dk_at dksJ10_hugeLength_0 1 rfl rfl)
theorem dJ10_hugeLength_2 : decode cJ10_hugeLength 2 = .ok (.iadd, 1) := dk_96 (dk_at dksJ10_hugeLength_0 2 rfl rfl)
theorem dJ10_hugeLength_3 : decode cJ10_hugeLength 3 = .ok (.istore_n 2, 1) := dk_61 (dk_at dksJ10_hugeLength_0 3 rfl rfl)
theorem dJ10_hugeLength_4 : decode cJ10_hugeLength 4 = .ok (.iload_n 2, 1) := dk_28 (dk_at dksJ10_hugeLength_0 4 rfl rfl)
theorem dJ10_hugeLength_5 : decode cJ10_hugeLength 5 = .ok (.ifCond .ge 44, 3) := dk_156 0 44 (dk_at dksJ10_hugeLength_0 5 rfl rfl)
theorem dJ10_hugeLength_8 : decode cJ10_hugeLength 8 = .ok (.new 204, 3) := dk_187 0 204 (dk_at dksJ10_hugeLength_0 8 rfl rfl)
theorem dJ10_hugeLength_11 : decode cJ10_hugeLength 11 = .ok (.dup, 1) := dk_89 (dk_at dksJ10_hugeLength_0 11 rfl rfl)
theorem dJ10_hugeLength_12 : decode cJ10_hugeLength 12 = .ok (.new 89, 3) := dk_187 0 89 (dk_at dksJ10_hugeLength_0 12 rfl rfl)
theorem dJ10_hugeLength_15 : decode cJ10_hugeLength 15 = .ok (.dup, 1) := dk_89 (dk_at dksJ10_hugeLength_0 15 rfl rfl)
theorem dJ10_hugeLength_16 : decode cJ10_hugeLength 16 = .ok (.invokespecial 91, 3) := dk_183 0 91 (dk_at dksJ10_hugeLength_0 16 rfl rfl)
theorem dJ10_hugeLength_19 : decode cJ10_hugeLength 19 = .ok (.ldc 206, 2) := dk_18 206 (dk_at dksJ10_hugeLength_0 19 rfl rfl)
theorem dJ10_hugeLength_21 : decode cJ10_hugeLength 21 = .ok (.invokevirtual 94, 3) := dk_182 0 94 (dk_at dksJ10_hugeLength_0 21 rfl rfl)
theorem dJ10_hugeLength_24 : decode cJ10_hugeLength 24 = .ok (.iload_n 0, 1) := dk_26 (dk_at dksJ10_hugeLength_1 0 rfl rfl)
theorem dJ10_hugeLength_25 : decode cJ10_hugeLength 25 = .ok (.invokevirtual 98, 3) := dk_182 0 98 (dk_at dksJ10_hugeLength_1 1 rfl rfl)
theorem dJ10_hugeLength_28 : decode cJ10_hugeLength 28 = .ok (.ldc 208, 2) := dk_18 208 (dk_at dksJ10_hugeLength_1 4 rfl rfl)
theorem dJ10_hugeLength_30 : decode cJ10_hugeLength 30 = .ok (.invokevirtual 94, 3) := dk_182 0 94 (dk_at dksJ10_hugeLength_1 6 rfl rfl)
theorem dJ10_hugeLength_33 : decode cJ10_hugeLength 33 = .ok (.iload_n 1, 1) := dk_27 (dk_at dksJ10_hugeLength_1 9 rfl rfl)
theorem dJ10_hugeLength_34 : decode cJ10_hugeLength 34 = .ok (.invokevirtual 98, 3) := dk_182 0 98 (dk_at dksJ10_hugeLength_1 10 rfl rfl)
theorem dJ10_hugeLength_37 : decode cJ10_hugeLength 37 = .ok (.ldc 210, 2) := dk_18 210 (dk_at dksJ10_hugeLength_1 13 rfl rfl)
theorem dJ10_hugeLength_39 : decode cJ10_hugeLength 39 = .ok (.invokevirtual 94, 3) := dk_182 0 94 (dk_at dksJ10_hugeLength_1 15 rfl rfl)
theorem dJ10_hugeLength_42 : decode cJ10_hugeLength 42 = .ok (.invokevirtual 101, 3) := dk_182 0 101 (dk_at dksJ10_hugeLength_1 18 rfl rfl)
theorem dJ10_hugeLength_45 : decode cJ10_hugeLength 45 = .ok (.invokespecial 212, 3) := dk_183 0 212 (dk_at dksJ10_hugeLength_1 21 rfl rfl)
theorem dJ10_hugeLength_48 : decode cJ10_hugeLength 48 = .ok (.athrow, 1) := dk_191 (dk_at dksJ10_hugeLength_2 0 rfl rfl)
theorem dJ10_hugeLength_49 : decode cJ10_hugeLength 49 = .ok (.iload_n 2, 1) := dk_28 (dk_at dksJ10_hugeLength_2 1 rfl rfl)
theorem dJ10_hugeLength_50 : decode cJ10_hugeLength 50 = .ok (.ldc 200, 2) := dk_18 200 (dk_at dksJ10_hugeLength_2 2 rfl rfl)
theorem dJ10_hugeLength_52 : decode cJ10_hugeLength 52 = .ok (.if_icmp .gt 6, 3) := dk_163 0 6 (dk_at dksJ10_hugeLength_2 4 rfl rfl)
theorem dJ10_hugeLength_55 : decode cJ10_hugeLength 55 = .ok (.ldc 200, 2) := dk_18 200 (dk_at dksJ10_hugeLength_2 7 rfl rfl)
theorem dJ10_hugeLength_57 : decode cJ10_hugeLength 57 = .ok (.ireturn, 1) := dk_172 (dk_at dksJ10_hugeLength_2 9 rfl rfl)
theorem dJ10_hugeLength_58 : decode cJ10_hugeLength 58 = .ok (.iload_n 2, 1) := dk_28 (dk_at dksJ10_hugeLength_2 10 rfl rfl)
theorem dJ10_hugeLength_59 : decode cJ10_hugeLength 59 = .ok (.ireturn, 1) := dk_172 (dk_at dksJ10_hugeLength_2 11 rfl rfl)
theorem q157 : (Jvm.Cond.initialized "jdk/internal/util/ArraysSupport") ∈ lw_all := lw_g (lw_at lw_m1 22 rfl) rfl
theorem q696 : (Jvm.Cond.static ({ cls := "jdk/internal/util/ArraysSupport", name := "newLength", desc := "(III)I" } : Jvm.MethodName)) ∈ lw_all := lw_g (lw_at lw_m3 81 rfl) rfl
theorem q697 : (Jvm.Cond.code ({ cls := "jdk/internal/util/ArraysSupport", name := "newLength", desc := "(III)I" } : Jvm.MethodName) prog_46_method_27_code (4 : Nat) (Option.some Jvm.ClassFile.FieldType.int)) ∈ lw_all := lw_g (lw_at lw_m3 82 rfl) rfl
theorem q698 : (Jvm.Cond.methodLink "jdk/internal/util/ArraysSupport" (194 : Nat) ({ cls := "java/lang/Math", name := "max", desc := "(II)I" } : Jvm.MethodName)) ∈ lw_all := lw_g (lw_at lw_m3 83 rfl) rfl
theorem q701 : (Jvm.Cond.constant "jdk/internal/util/ArraysSupport" (200 : Nat) (2147483639 : Int32)) ∈ lw_all := lw_g (lw_at lw_m3 86 rfl) rfl
theorem q702 : (Jvm.Cond.methodLink "jdk/internal/util/ArraysSupport" (201 : Nat) ({ cls := "jdk/internal/util/ArraysSupport", name := "hugeLength", desc := "(II)I" } : Jvm.MethodName)) ∈ lw_all := lw_g (lw_at lw_m3 87 rfl) rfl
theorem q703 : (Jvm.Cond.static ({ cls := "jdk/internal/util/ArraysSupport", name := "hugeLength", desc := "(II)I" } : Jvm.MethodName)) ∈ lw_all := lw_g (lw_at lw_m3 88 rfl) rfl
theorem q704 : (Jvm.Cond.code ({ cls := "jdk/internal/util/ArraysSupport", name := "hugeLength", desc := "(II)I" } : Jvm.MethodName) prog_46_method_28_code (3 : Nat) (Option.some Jvm.ClassFile.FieldType.int)) ∈ lw_all := lw_g (lw_at lw_m3 89 rfl) rfl

/-! java/util/Arrays -/
set_option maxRecDepth 100000
def RJ11 : String := "java/util/Arrays"
abbrev cJ11_copyOf : ByteArray := prog_40_method_119_code
def yJ11_copyOf : MethodName := ⟨RJ11, "copyOf", "([Ljava/lang/Object;I)[Ljava/lang/Object;"⟩
def dkwJ11_copyOf_0 : List UInt8 := [42, 27, 42, 182, 0, 86, 184, 1, 44, 176]
abbrev dktJ11_copyOf_0 : List UInt8 := dkwJ11_copyOf_0 ++ []
theorem dksJ11_copyOf_0 : cJ11_copyOf.data.toList.drop 0 = dktJ11_copyOf_0 := by decide +kernel
theorem dJ11_copyOf_0 : decode cJ11_copyOf 0 = .ok (.aload_n 0, 1) := dk_42 (dk_at dksJ11_copyOf_0 0 rfl rfl)
theorem dJ11_copyOf_1 : decode cJ11_copyOf 1 = .ok (.iload_n 1, 1) := dk_27 (dk_at dksJ11_copyOf_0 1 rfl rfl)
theorem dJ11_copyOf_2 : decode cJ11_copyOf 2 = .ok (.aload_n 0, 1) := dk_42 (dk_at dksJ11_copyOf_0 2 rfl rfl)
theorem dJ11_copyOf_3 : decode cJ11_copyOf 3 = .ok (.invokevirtual 86, 3) := dk_182 0 86 (dk_at dksJ11_copyOf_0 3 rfl rfl)
theorem dJ11_copyOf_6 : decode cJ11_copyOf 6 = .ok (.invokestatic 300, 3) := dk_184 1 44 (dk_at dksJ11_copyOf_0 6 rfl rfl)
theorem dJ11_copyOf_9 : decode cJ11_copyOf 9 = .ok (.areturn, 1) := dk_176 (dk_at dksJ11_copyOf_0 9 rfl rfl)
abbrev cJ11_copyOf_2 : ByteArray := prog_40_method_120_code
def yJ11_copyOf_2 : MethodName := ⟨RJ11, "copyOf", "([Ljava/lang/Object;ILjava/lang/Class;)[Ljava/lang/Object;"⟩
def dkwJ11_copyOf_2_1 : List UInt8 := [78, 42, 3, 45, 3, 42, 190, 27, 184, 1, 48, 184, 0, 150, 45, 176]
abbrev dktJ11_copyOf_2_1 : List UInt8 := dkwJ11_copyOf_2_1 ++ []
def dkwJ11_copyOf_2_0 : List UInt8 := [44, 18, 110, 166, 0, 10, 27, 189, 0, 2, 167, 0, 14, 44, 182, 0, 90, 27, 184, 0, 95, 192, 0, 110]
abbrev dktJ11_copyOf_2_0 : List UInt8 := dkwJ11_copyOf_2_0 ++ dktJ11_copyOf_2_1
theorem dksJ11_copyOf_2_0 : cJ11_copyOf_2.data.toList.drop 0 = dktJ11_copyOf_2_0 := by decide +kernel
theorem dksJ11_copyOf_2_1 : cJ11_copyOf_2.data.toList.drop 24 = dktJ11_copyOf_2_1 := dk_seg dksJ11_copyOf_2_0 24 rfl rfl
theorem dJ11_copyOf_2_0 : decode cJ11_copyOf_2 0 = .ok (.aload_n 2, 1) := dk_44 (dk_at dksJ11_copyOf_2_0 0 rfl rfl)
theorem dJ11_copyOf_2_1 : decode cJ11_copyOf_2 1 = .ok (.ldc 110, 2) := dk_18 110 (dk_at dksJ11_copyOf_2_0 1 rfl rfl)
theorem dJ11_copyOf_2_3 : decode cJ11_copyOf_2 3 = .ok (.if_acmp .ne 10, 3) := dk_166 0 10 (dk_at dksJ11_copyOf_2_0 3 rfl rfl)
theorem dJ11_copyOf_2_6 : decode cJ11_copyOf_2 6 = .ok (.iload_n 1, 1) := dk_27 (dk_at dksJ11_copyOf_2_0 6 rfl rfl)
theorem dJ11_copyOf_2_7 : decode cJ11_copyOf_2 7 = .ok (.anewarray 2, 3) := dk_189 0 2 (dk_at dksJ11_copyOf_2_0 7 rfl rfl)
theorem dJ11_copyOf_2_10 : decode cJ11_copyOf_2 10 = .ok (.goto 14, 3) := dk_167 0 14 (dk_at dksJ11_copyOf_2_0 10 rfl rfl)
theorem dJ11_copyOf_2_13 : decode cJ11_copyOf_2 13 = .ok (.aload_n 2, 1) := dk_44 (dk_at dksJ11_copyOf_2_0 13 rfl rfl)
theorem dJ11_copyOf_2_14 : decode cJ11_copyOf_2 14 = .ok (.invokevirtual 90, 3) := dk_182 0 90 (dk_at dksJ11_copyOf_2_0 14 rfl rfl)
theorem dJ11_copyOf_2_17 : decode cJ11_copyOf_2 17 = .ok (.iload_n 1, 1) := dk_27 (dk_at dksJ11_copyOf_2_0 17 rfl rfl)
theorem dJ11_copyOf_2_18 : decode cJ11_copyOf_2 18 = .ok (.invokestatic 95, 3) := dk_184 0 95 (dk_at dksJ11_copyOf_2_0 18 rfl rfl)
theorem dJ11_copyOf_2_21 : decode cJ11_copyOf_2 21 = .ok (.checkcast 110, 3) := dk_192 0 110 (dk_at dksJ11_copyOf_2_0 21 rfl rfl)
theorem dJ11_copyOf_2_24 : decode cJ11_copyOf_2 24 = .ok (.astore_n 3, 1) := dk_78 (dk_at dksJ11_copyOf_2_1 0 rfl rfl)
theorem dJ11_copyOf_2_25 : decode cJ11_copyOf_2 25 = .ok (.aload_n 0, 1) := dk_42 (dk_at dksJ11_copyOf_2_1 1 rfl rfl)
theorem dJ11_copyOf_2_26 : decode cJ11_copyOf_2 26 = .ok (.iconst 0, 1) := dk_3 (dk_at dksJ11_copyOf_2_1 2 rfl rfl)
theorem dJ11_copyOf_2_27 : decode cJ11_copyOf_2 27 = .ok (.aload_n 3, 1) := dk_45 (dk_at dksJ11_copyOf_2_1 3 rfl rfl)
theorem dJ11_copyOf_2_28 : decode cJ11_copyOf_2 28 = .ok (.iconst 0, 1) := dk_3 (dk_at dksJ11_copyOf_2_1 4 rfl rfl)
theorem dJ11_copyOf_2_29 : decode cJ11_copyOf_2 29 = .ok (.aload_n 0, 1) := dk_42 (dk_at dksJ11_copyOf_2_1 5 rfl rfl)
theorem dJ11_copyOf_2_30 : decode cJ11_copyOf_2 30 = .ok (.arraylength, 1) := dk_190 (dk_at dksJ11_copyOf_2_1 6 rfl rfl)
theorem dJ11_copyOf_2_31 : decode cJ11_copyOf_2 31 = .ok (.iload_n 1, 1) := dk_27 (dk_at dksJ11_copyOf_2_1 7 rfl rfl)
theorem dJ11_copyOf_2_32 : decode cJ11_copyOf_2 32 = .ok (.invokestatic 304, 3) := dk_184 1 48 (dk_at dksJ11_copyOf_2_1 8 rfl rfl)
theorem dJ11_copyOf_2_35 : decode cJ11_copyOf_2 35 = .ok (.invokestatic 150, 3) := dk_184 0 150 (dk_at dksJ11_copyOf_2_1 11 rfl rfl)
theorem dJ11_copyOf_2_38 : decode cJ11_copyOf_2 38 = .ok (.aload_n 3, 1) := dk_45 (dk_at dksJ11_copyOf_2_1 14 rfl rfl)
theorem dJ11_copyOf_2_39 : decode cJ11_copyOf_2 39 = .ok (.areturn, 1) := dk_176 (dk_at dksJ11_copyOf_2_1 15 rfl rfl)
theorem q158 : (Jvm.Cond.initialized "java/util/Arrays") ∈ lw_all := lw_g (lw_at lw_m1 23 rfl) rfl
theorem q706 : (Jvm.Cond.static ({ cls := "java/util/Arrays", name := "copyOf", desc := "([Ljava/lang/Object;I)[Ljava/lang/Object;" } : Jvm.MethodName)) ∈ lw_all := lw_g (lw_at lw_m3 91 rfl) rfl
theorem q707 : (Jvm.Cond.code ({ cls := "java/util/Arrays", name := "copyOf", desc := "([Ljava/lang/Object;I)[Ljava/lang/Object;" } : Jvm.MethodName) prog_40_method_119_code (2 : Nat) (Option.some (Jvm.ClassFile.FieldType.array (Jvm.ClassFile.FieldType.object "java/lang/Object")))) ∈ lw_all := lw_g (lw_at lw_m3 92 rfl) rfl
theorem q708 : (Jvm.Cond.methodLink "java/util/Arrays" (86 : Nat) ({ cls := "java/lang/Object", name := "getClass", desc := "()Ljava/lang/Class;" } : Jvm.MethodName)) ∈ lw_all := lw_g (lw_at lw_m3 93 rfl) rfl
theorem q729 : (Jvm.Cond.methodLink "java/util/Arrays" (300 : Nat) ({ cls := "java/util/Arrays", name := "copyOf", desc := "([Ljava/lang/Object;ILjava/lang/Class;)[Ljava/lang/Object;" } : Jvm.MethodName)) ∈ lw_all := lw_g (lw_at lw_m3 114 rfl) rfl
theorem q730 : (Jvm.Cond.static ({ cls := "java/util/Arrays", name := "copyOf", desc := "([Ljava/lang/Object;ILjava/lang/Class;)[Ljava/lang/Object;" } : Jvm.MethodName)) ∈ lw_all := lw_g (lw_at lw_m3 115 rfl) rfl
theorem q731 : (Jvm.Cond.code ({ cls := "java/util/Arrays", name := "copyOf", desc := "([Ljava/lang/Object;ILjava/lang/Class;)[Ljava/lang/Object;" } : Jvm.MethodName) prog_40_method_120_code (4 : Nat) (Option.some (Jvm.ClassFile.FieldType.array (Jvm.ClassFile.FieldType.object "java/lang/Object")))) ∈ lw_all := lw_g (lw_at lw_m3 116 rfl) rfl
theorem q732 : (Jvm.Cond.classLink "java/util/Arrays" (110 : Nat) "[Ljava/lang/Object;") ∈ lw_all := lw_g (lw_at lw_m3 117 rfl) rfl
theorem q734 : (Jvm.Cond.classLink "java/util/Arrays" (2 : Nat) "java/lang/Object") ∈ lw_all := lw_g (lw_at lw_m3 119 rfl) rfl
theorem q735 : (Jvm.Cond.methodLink "java/util/Arrays" (304 : Nat) ({ cls := "java/lang/Math", name := "min", desc := "(II)I" } : Jvm.MethodName)) ∈ lw_all := lw_g (lw_at lw_m3 120 rfl) rfl
theorem q736 : (Jvm.Cond.methodLink "java/util/Arrays" (150 : Nat) ({ cls := "java/lang/System", name := "arraycopy", desc := "(Ljava/lang/Object;ILjava/lang/Object;II)V" } : Jvm.MethodName)) ∈ lw_all := lw_g (lw_at lw_m3 121 rfl) rfl

/-! java/util/Objects -/
set_option maxRecDepth 100000
def RJ12 : String := "java/util/Objects"
abbrev cJ12_checkIndex : ByteArray := prog_43_method_17_code
def yJ12_checkIndex : MethodName := ⟨RJ12, "checkIndex", "(II)I"⟩
def dkwJ12_checkIndex_0 : List UInt8 := [26, 27, 1, 184, 0, 105, 172]
abbrev dktJ12_checkIndex_0 : List UInt8 := dkwJ12_checkIndex_0 ++ []
theorem dksJ12_checkIndex_0 : cJ12_checkIndex.data.toList.drop 0 = dktJ12_checkIndex_0 := by decide +kernel
theorem dJ12_checkIndex_0 : decode cJ12_checkIndex 0 = .ok (.iload_n 0, 1) := dk_26 (dk_at dksJ12_checkIndex_0 0 rfl rfl)
theorem dJ12_checkIndex_1 : decode cJ12_checkIndex 1 = .ok (.iload_n 1, 1) := dk_27 (dk_at dksJ12_checkIndex_0 1 rfl rfl)
theorem dJ12_checkIndex_2 : decode cJ12_checkIndex 2 = .ok (.aconst_null, 1) := dk_1 (dk_at dksJ12_checkIndex_0 2 rfl rfl)
theorem dJ12_checkIndex_3 : decode cJ12_checkIndex 3 = .ok (.invokestatic 105, 3) := dk_184 0 105 (dk_at dksJ12_checkIndex_0 3 rfl rfl)
theorem dJ12_checkIndex_6 : decode cJ12_checkIndex 6 = .ok (.ireturn, 1) := dk_172 (dk_at dksJ12_checkIndex_0 6 rfl rfl)
theorem q163 : (Jvm.Cond.initialized "java/util/Objects") ∈ lw_all := lw_g (lw_at lw_m1 28 rfl) rfl
theorem q785 : (Jvm.Cond.static ({ cls := "java/util/Objects", name := "checkIndex", desc := "(II)I" } : Jvm.MethodName)) ∈ lw_all := lw_g (lw_at lw_m3 170 rfl) rfl
theorem q786 : (Jvm.Cond.code ({ cls := "java/util/Objects", name := "checkIndex", desc := "(II)I" } : Jvm.MethodName) prog_43_method_17_code (2 : Nat) (Option.some Jvm.ClassFile.FieldType.int)) ∈ lw_all := lw_g (lw_at lw_m3 171 rfl) rfl
theorem q787 : (Jvm.Cond.methodLink "java/util/Objects" (105 : Nat) ({ cls := "jdk/internal/util/Preconditions", name := "checkIndex", desc := "(IILjava/util/function/BiFunction;)I" } : Jvm.MethodName)) ∈ lw_all := lw_g (lw_at lw_m3 172 rfl) rfl

/-! java/lang/Integer -/
set_option maxRecDepth 100000
def RJ13 : String := "java/lang/Integer"
abbrev cJ13_bitCount : ByteArray := prog_24_method_49_code
def yJ13_bitCount : MethodName := ⟨RJ13, "bitCount", "(I)I"⟩
def dkwJ13_bitCount_2 : List UInt8 := [26, 16, 63, 126, 172]
abbrev dktJ13_bitCount_2 : List UInt8 := dkwJ13_bitCount_2 ++ []
def dkwJ13_bitCount_1 : List UInt8 := [26, 26, 7, 124, 96, 19, 1, 11, 126, 59, 26, 26, 16, 8, 124, 96, 59, 26, 26, 16, 16, 124, 96, 59]
abbrev dktJ13_bitCount_1 : List UInt8 := dkwJ13_bitCount_1 ++ dktJ13_bitCount_2
def dkwJ13_bitCount_0 : List UInt8 := [26, 26, 4, 124, 19, 1, 9, 126, 100, 59, 26, 19, 1, 10, 126, 26, 5, 124, 19, 1, 10, 126, 96, 59]
abbrev dktJ13_bitCount_0 : List UInt8 := dkwJ13_bitCount_0 ++ dktJ13_bitCount_1
theorem dksJ13_bitCount_0 : cJ13_bitCount.data.toList.drop 0 = dktJ13_bitCount_0 := by decide +kernel
theorem dksJ13_bitCount_1 : cJ13_bitCount.data.toList.drop 24 = dktJ13_bitCount_1 := dk_seg dksJ13_bitCount_0 24 rfl rfl
theorem dksJ13_bitCount_2 : cJ13_bitCount.data.toList.drop 48 = dktJ13_bitCount_2 := dk_seg dksJ13_bitCount_1 24 rfl rfl
theorem dJ13_bitCount_0 : decode cJ13_bitCount 0 = .ok (.iload_n 0, 1) := dk_26 (dk_at dksJ13_bitCount_0 0 rfl rfl)
theorem dJ13_bitCount_1 : decode cJ13_bitCount 1 = .ok (.iload_n 0, 1) := dk_26 (dk_at dksJ13_bitCount_0 1 rfl rfl)
theorem dJ13_bitCount_2 : decode cJ13_bitCount 2 = .ok (.iconst 1, 1) := dk_4 (dk_at dksJ13_bitCount_0 2 rfl rfl)
theorem dJ13_bitCount_3 : decode cJ13_bitCount 3 = .ok (.iushr, 1) := dk_124 (dk_at dksJ13_bitCount_0 3 rfl rfl)
theorem dJ13_bitCount_4 : decode cJ13_bitCount 4 = .ok (.ldc_w 265, 3) := dk_19 1 9 (dk_at dksJ13_bitCount_0 4 rfl rfl)
theorem dJ13_bitCount_7 : decode cJ13_bitCount 7 = .ok (.iand, 1) := dk_126 (dk_at dksJ13_bitCount_0 7 rfl rfl)
theorem dJ13_bitCount_8 : decode cJ13_bitCount 8 = .ok (.isub, 1) := dk_100 (dk_at dksJ13_bitCount_0 8 rfl rfl)
theorem dJ13_bitCount_9 : decode cJ13_bitCount 9 = .ok (.istore_n 0, 1) := dk_59 (dk_at dksJ13_bitCount_0 9 rfl rfl)
theorem dJ13_bitCount_10 : decode cJ13_bitCount 10 = .ok (.iload_n 0, 1) := dk_26 (dk_at dksJ13_bitCount_0 10 rfl rfl)
theorem dJ13_bitCount_11 : decode cJ13_bitCount 11 = .ok (.ldc_w 266, 3) := dk_19 1 10 (dk_at dksJ13_bitCount_0 11 rfl rfl)
theorem dJ13_bitCount_14 : decode cJ13_bitCount 14 = .ok (.iand, 1) := dk_126 (dk_at dksJ13_bitCount_0 14 rfl rfl)
theorem dJ13_bitCount_15 : decode cJ13_bitCount 15 = .ok (.iload_n 0, 1) := dk_26 (dk_at dksJ13_bitCount_0 15 rfl rfl)
theorem dJ13_bitCount_16 : decode cJ13_bitCount 16 = .ok (.iconst 2, 1) := dk_5 (dk_at dksJ13_bitCount_0 16 rfl rfl)
theorem dJ13_bitCount_17 : decode cJ13_bitCount 17 = .ok (.iushr, 1) := dk_124 (dk_at dksJ13_bitCount_0 17 rfl rfl)
theorem dJ13_bitCount_18 : decode cJ13_bitCount 18 = .ok (.ldc_w 266, 3) := dk_19 1 10 (dk_at dksJ13_bitCount_0 18 rfl rfl)
theorem dJ13_bitCount_21 : decode cJ13_bitCount 21 = .ok (.iand, 1) := dk_126 (dk_at dksJ13_bitCount_0 21 rfl rfl)
theorem dJ13_bitCount_22 : decode cJ13_bitCount 22 = .ok (.iadd, 1) := dk_96 (dk_at dksJ13_bitCount_0 22 rfl rfl)
theorem dJ13_bitCount_23 : decode cJ13_bitCount 23 = .ok (.istore_n 0, 1) := dk_59 (dk_at dksJ13_bitCount_0 23 rfl rfl)
theorem dJ13_bitCount_24 : decode cJ13_bitCount 24 = .ok (.iload_n 0, 1) := dk_26 (dk_at dksJ13_bitCount_1 0 rfl rfl)
theorem dJ13_bitCount_25 : decode cJ13_bitCount 25 = .ok (.iload_n 0, 1) := dk_26 (dk_at dksJ13_bitCount_1 1 rfl rfl)
theorem dJ13_bitCount_26 : decode cJ13_bitCount 26 = .ok (.iconst 4, 1) := dk_7 (dk_at dksJ13_bitCount_1 2 rfl rfl)
theorem dJ13_bitCount_27 : decode cJ13_bitCount 27 = .ok (.iushr, 1) := dk_124 (dk_at dksJ13_bitCount_1 3 rfl rfl)
theorem dJ13_bitCount_28 : decode cJ13_bitCount 28 = .ok (.iadd, 1) := dk_96 (dk_at dksJ13_bitCount_1 4 rfl rfl)
theorem dJ13_bitCount_29 : decode cJ13_bitCount 29 = .ok (.ldc_w 267, 3) := dk_19 1 11 (dk_at dksJ13_bitCount_1 5 rfl rfl)
theorem dJ13_bitCount_32 : decode cJ13_bitCount 32 = .ok (.iand, 1) := dk_126 (dk_at dksJ13_bitCount_1 8 rfl rfl)
theorem dJ13_bitCount_33 : decode cJ13_bitCount 33 = .ok (.istore_n 0, 1) := dk_59 (dk_at dksJ13_bitCount_1 9 rfl rfl)
theorem dJ13_bitCount_34 : decode cJ13_bitCount 34 = .ok (.iload_n 0, 1) := dk_26 (dk_at dksJ13_bitCount_1 10 rfl rfl)
theorem dJ13_bitCount_35 : decode cJ13_bitCount 35 = .ok (.iload_n 0, 1) := dk_26 (dk_at dksJ13_bitCount_1 11 rfl rfl)
theorem dJ13_bitCount_36 : decode cJ13_bitCount 36 = .ok (.bipush 8, 2) := dk_16 8 (dk_at dksJ13_bitCount_1 12 rfl rfl)
theorem dJ13_bitCount_38 : decode cJ13_bitCount 38 = .ok (.iushr, 1) := dk_124 (dk_at dksJ13_bitCount_1 14 rfl rfl)
theorem dJ13_bitCount_39 : decode cJ13_bitCount 39 = .ok (.iadd, 1) := dk_96 (dk_at dksJ13_bitCount_1 15 rfl rfl)
theorem dJ13_bitCount_40 : decode cJ13_bitCount 40 = .ok (.istore_n 0, 1) := dk_59 (dk_at dksJ13_bitCount_1 16 rfl rfl)
theorem dJ13_bitCount_41 : decode cJ13_bitCount 41 = .ok (.iload_n 0, 1) := dk_26 (dk_at dksJ13_bitCount_1 17 rfl rfl)
theorem dJ13_bitCount_42 : decode cJ13_bitCount 42 = .ok (.iload_n 0, 1) := dk_26 (dk_at dksJ13_bitCount_1 18 rfl rfl)
theorem dJ13_bitCount_43 : decode cJ13_bitCount 43 = .ok (.bipush 16, 2) := dk_16 16 (dk_at dksJ13_bitCount_1 19 rfl rfl)
theorem dJ13_bitCount_45 : decode cJ13_bitCount 45 = .ok (.iushr, 1) := dk_124 (dk_at dksJ13_bitCount_1 21 rfl rfl)
theorem dJ13_bitCount_46 : decode cJ13_bitCount 46 = .ok (.iadd, 1) := dk_96 (dk_at dksJ13_bitCount_1 22 rfl rfl)
theorem dJ13_bitCount_47 : decode cJ13_bitCount 47 = .ok (.istore_n 0, 1) := dk_59 (dk_at dksJ13_bitCount_1 23 rfl rfl)
theorem dJ13_bitCount_48 : decode cJ13_bitCount 48 = .ok (.iload_n 0, 1) := dk_26 (dk_at dksJ13_bitCount_2 0 rfl rfl)
theorem dJ13_bitCount_49 : decode cJ13_bitCount 49 = .ok (.bipush 63, 2) := dk_16 63 (dk_at dksJ13_bitCount_2 1 rfl rfl)
theorem dJ13_bitCount_51 : decode cJ13_bitCount 51 = .ok (.iand, 1) := dk_126 (dk_at dksJ13_bitCount_2 3 rfl rfl)
theorem dJ13_bitCount_52 : decode cJ13_bitCount 52 = .ok (.ireturn, 1) := dk_172 (dk_at dksJ13_bitCount_2 4 rfl rfl)
theorem q164 : (Jvm.Cond.initialized "java/lang/Integer") ∈ lw_all := lw_g (lw_at lw_m1 29 rfl) rfl
theorem q1004 : (Jvm.Cond.static ({ cls := "java/lang/Integer", name := "bitCount", desc := "(I)I" } : Jvm.MethodName)) ∈ lw_all := lw_g (lw_at lw_m4 149 rfl) rfl
theorem q1005 : (Jvm.Cond.code ({ cls := "java/lang/Integer", name := "bitCount", desc := "(I)I" } : Jvm.MethodName) prog_24_method_49_code (1 : Nat) (Option.some Jvm.ClassFile.FieldType.int)) ∈ lw_all := lw_g (lw_at lw_m4 150 rfl) rfl
theorem q1006 : (Jvm.Cond.constant "java/lang/Integer" (265 : Nat) (1431655765 : Int32)) ∈ lw_all := lw_g (lw_at lw_m4 151 rfl) rfl
theorem q1007 : (Jvm.Cond.constant "java/lang/Integer" (266 : Nat) (858993459 : Int32)) ∈ lw_all := lw_g (lw_at lw_m4 152 rfl) rfl
theorem q1008 : (Jvm.Cond.constant "java/lang/Integer" (267 : Nat) (252645135 : Int32)) ∈ lw_all := lw_g (lw_at lw_m4 153 rfl) rfl

/-! java/lang/RuntimeException -/
set_option maxRecDepth 100000
def RJ14 : String := "java/lang/RuntimeException"
abbrev cJ14_init : ByteArray := prog_29_method_1_code
def yJ14_init : MethodName := ⟨RJ14, "<init>", "()V"⟩
theorem dJ14_init_0 : decode cJ14_init 0 = .ok (.aload_n 0, 1) := by decide +kernel
theorem dJ14_init_1 : decode cJ14_init 1 = .ok (.invokespecial 1, 3) := by decide +kernel
theorem dJ14_init_4 : decode cJ14_init 4 = .ok (.return_, 1) := by decide +kernel
abbrev cJ14_init_2 : ByteArray := prog_29_method_2_code
def yJ14_init_2 : MethodName := ⟨RJ14, "<init>", "(Ljava/lang/String;)V"⟩
def dkwJ14_init_2_0 : List UInt8 := [42, 43, 183, 0, 7, 177]
abbrev dktJ14_init_2_0 : List UInt8 := dkwJ14_init_2_0 ++ []
theorem dksJ14_init_2_0 : cJ14_init_2.data.toList.drop 0 = dktJ14_init_2_0 := by decide +kernel
theorem dJ14_init_2_0 : decode cJ14_init_2 0 = .ok (.aload_n 0, 1) := dk_42 (dk_at dksJ14_init_2_0 0 rfl rfl)
theorem dJ14_init_2_1 : decode cJ14_init_2 1 = .ok (.aload_n 1, 1) := dk_43 (dk_at dksJ14_init_2_0 1 rfl rfl)
theorem dJ14_init_2_2 : decode cJ14_init_2 2 = .ok (.invokespecial 7, 3) := dk_183 0 7 (dk_at dksJ14_init_2_0 2 rfl rfl)
theorem dJ14_init_2_5 : decode cJ14_init_2 5 = .ok (.return_, 1) := dk_177 (dk_at dksJ14_init_2_0 5 rfl rfl)
theorem q165 : (Jvm.Cond.initialized "java/lang/RuntimeException") ∈ lw_all := lw_g (lw_at lw_m1 30 rfl) rfl
theorem q552 : (Jvm.Cond.sameMethod "java/lang/RuntimeException" "java/lang/Throwable" "fillInStackTrace" "()Ljava/lang/Throwable;") ∈ lw_all := lw_g (lw_at lw_m2 177 rfl) rfl
theorem q555 : (Jvm.Cond.superclass "java/lang/RuntimeException" "java/lang/Exception") ∈ lw_all := lw_g (lw_at lw_m2 180 rfl) rfl
theorem q1062 : (Jvm.Cond.instanceMethod ({ cls := "java/lang/RuntimeException", name := "<init>", desc := "()V" } : Jvm.MethodName)) ∈ lw_all := lw_g (lw_at lw_m4 207 rfl) rfl
theorem q1063 : (Jvm.Cond.code ({ cls := "java/lang/RuntimeException", name := "<init>", desc := "()V" } : Jvm.MethodName) prog_29_method_1_code (1 : Nat) (Option.none : Option Jvm.ClassFile.FieldType)) ∈ lw_all := lw_g (lw_at lw_m4 208 rfl) rfl
theorem q1064 : (Jvm.Cond.methodLink "java/lang/RuntimeException" (1 : Nat) ({ cls := "java/lang/Exception", name := "<init>", desc := "()V" } : Jvm.MethodName)) ∈ lw_all := lw_g (lw_at lw_m4 209 rfl) rfl
theorem q1081 : (Jvm.Cond.declares ({ cls := "java/lang/RuntimeException", name := "<init>", desc := "()V" } : Jvm.MethodName)) ∈ lw_tbl := lw_at lw_m4 226 rfl
theorem q1082 : (Jvm.Cond.declares ({ cls := "java/lang/RuntimeException", name := "<init>", desc := "(Ljava/lang/String;)V" } : Jvm.MethodName)) ∈ lw_tbl := lw_at lw_m4 227 rfl
theorem q1084 : (Jvm.Cond.castable "java/lang/RuntimeException" "java/lang/Throwable") ∈ lw_tbl := lw_at lw_m4 229 rfl
theorem q1314 : (Jvm.Cond.instanceMethod ({ cls := "java/lang/RuntimeException", name := "<init>", desc := "(Ljava/lang/String;)V" } : Jvm.MethodName)) ∈ lw_all := lw_g (lw_at lw_m5 219 rfl) rfl
theorem q1315 : (Jvm.Cond.code ({ cls := "java/lang/RuntimeException", name := "<init>", desc := "(Ljava/lang/String;)V" } : Jvm.MethodName) prog_29_method_2_code (2 : Nat) (Option.none : Option Jvm.ClassFile.FieldType)) ∈ lw_all := lw_g (lw_at lw_m5 220 rfl) rfl
theorem q1316 : (Jvm.Cond.methodLink "java/lang/RuntimeException" (7 : Nat) ({ cls := "java/lang/Exception", name := "<init>", desc := "(Ljava/lang/String;)V" } : Jvm.MethodName)) ∈ lw_all := lw_g (lw_at lw_m5 221 rfl) rfl

/-! java/lang/NullPointerException -/
set_option maxRecDepth 100000
def RJ15 : String := "java/lang/NullPointerException"
def TJ15 : u_T := fun k => match k with
  | 0 => ("java/lang/Throwable", "backtrace", "Ljava/lang/Object;", false)
  | 1 => ("java/lang/Throwable", "detailMessage", "Ljava/lang/String;", false)
  | 2 => ("java/lang/Throwable", "cause", "Ljava/lang/Throwable;", false)
  | 3 => ("java/lang/Throwable", "stackTrace", "[Ljava/lang/StackTraceElement;", false)
  | 4 => ("java/lang/Throwable", "depth", "I", false)
  | 5 => ("java/lang/Throwable", "suppressedExceptions", "Ljava/util/List;", false)
  | 6 => ("java/lang/NullPointerException", "extendedMessageState", "I", false)
  | _ => ("java/lang/NullPointerException", "extendedMessage", "Ljava/lang/String;", false)
def tyJ15 : Nat → FieldType := fun k => match k with
  | 0 => .object "java/lang/Object"
  | 1 => .object "java/lang/String"
  | 2 => .object "java/lang/Throwable"
  | 3 => .array (.object "java/lang/StackTraceElement")
  | 4 => .int
  | 5 => .object "java/util/List"
  | 6 => .int
  | _ => .object "java/lang/String"
abbrev wsJ150 : List Cond := u_ws RJ15 TJ15 8
theorem nmJ15 : ∀ a, a < 8 → ∀ b, b < 8 → a ≠ b → (TJ15 a).2.1 ≠ (TJ15 b).2.1 := by decide +kernel
theorem tyJ15_ok : ∀ k, k < 8 → parseFieldDescriptor (TJ15 k).2.2.1 = some (tyJ15 k) := by decide +kernel
abbrev cJ15_init : ByteArray := prog_28_method_1_code
def yJ15_init : MethodName := ⟨RJ15, "<init>", "()V"⟩
theorem dJ15_init_0 : decode cJ15_init 0 = .ok (.aload_n 0, 1) := by decide +kernel
theorem dJ15_init_1 : decode cJ15_init 1 = .ok (.invokespecial 1, 3) := by decide +kernel
theorem dJ15_init_4 : decode cJ15_init 4 = .ok (.return_, 1) := by decide +kernel
theorem q166 : (Jvm.Cond.initialized "java/lang/NullPointerException") ∈ lw_all := lw_g (lw_at lw_m1 31 rfl) rfl
theorem q543 : (Jvm.Cond.selects "java/lang/NullPointerException" ({ cls := "java/lang/Throwable", name := "fillInStackTrace", desc := "()Ljava/lang/Throwable;" } : Jvm.MethodName) ({ cls := "java/lang/NullPointerException", name := "fillInStackTrace", desc := "()Ljava/lang/Throwable;" } : Jvm.MethodName)) ∈ lw_all := lw_g (lw_at lw_m2 168 rfl) rfl
theorem q544 : (Jvm.Cond.instanceMethod ({ cls := "java/lang/NullPointerException", name := "fillInStackTrace", desc := "()Ljava/lang/Throwable;" } : Jvm.MethodName)) ∈ lw_all := lw_g (lw_at lw_m2 169 rfl) rfl
theorem q545 : (Jvm.Cond.codeSync ({ cls := "java/lang/NullPointerException", name := "fillInStackTrace", desc := "()Ljava/lang/Throwable;" } : Jvm.MethodName) prog_28_method_3_code (1 : Nat) (Option.some (Jvm.ClassFile.FieldType.object "java/lang/Throwable"))) ∈ lw_all := lw_g (lw_at lw_m2 170 rfl) rfl
theorem q546 : (Jvm.Cond.methodLink "java/lang/NullPointerException" (16 : Nat) ({ cls := "java/lang/NullPointerException", name := "getExtendedNPEMessage", desc := "()Ljava/lang/String;" } : Jvm.MethodName)) ∈ lw_all := lw_g (lw_at lw_m2 171 rfl) rfl
theorem q547 : (Jvm.Cond.privateMethod ({ cls := "java/lang/NullPointerException", name := "getExtendedNPEMessage", desc := "()Ljava/lang/String;" } : Jvm.MethodName)) ∈ lw_tbl := lw_at lw_m2 172 rfl
theorem q548 : (Jvm.Cond.instanceMethod ({ cls := "java/lang/NullPointerException", name := "getExtendedNPEMessage", desc := "()Ljava/lang/String;" } : Jvm.MethodName)) ∈ lw_all := lw_g (lw_at lw_m2 173 rfl) rfl
theorem q549 : (Jvm.Cond.instantiable "java/lang/NullPointerException" (8 : Nat)) ∈ lw_all := lw_g (lw_at lw_m2 174 rfl) rfl
theorem q550 : (Jvm.Cond.native ({ cls := "java/lang/NullPointerException", name := "getExtendedNPEMessage", desc := "()Ljava/lang/String;" } : Jvm.MethodName)) ∈ lw_all := lw_g (lw_at lw_m2 175 rfl) rfl
theorem q551 : (Jvm.Cond.methodLink "java/lang/NullPointerException" (24 : Nat) ({ cls := "java/lang/RuntimeException", name := "fillInStackTrace", desc := "()Ljava/lang/Throwable;" } : Jvm.MethodName)) ∈ lw_all := lw_g (lw_at lw_m2 176 rfl) rfl
theorem q554 : (Jvm.Cond.superclass "java/lang/NullPointerException" "java/lang/RuntimeException") ∈ lw_all := lw_g (lw_at lw_m2 179 rfl) rfl
theorem q726 : (Jvm.Cond.selects "java/lang/NullPointerException" ({ cls := "java/lang/Object", name := "getClass", desc := "()Ljava/lang/Class;" } : Jvm.MethodName) ({ cls := "java/lang/Object", name := "getClass", desc := "()Ljava/lang/Class;" } : Jvm.MethodName)) ∈ lw_all := lw_g (lw_at lw_m3 111 rfl) rfl
theorem q1059 : (Jvm.Cond.instanceMethod ({ cls := "java/lang/NullPointerException", name := "<init>", desc := "()V" } : Jvm.MethodName)) ∈ lw_all := lw_g (lw_at lw_m4 204 rfl) rfl
theorem q1060 : (Jvm.Cond.code ({ cls := "java/lang/NullPointerException", name := "<init>", desc := "()V" } : Jvm.MethodName) prog_28_method_1_code (1 : Nat) (Option.none : Option Jvm.ClassFile.FieldType)) ∈ lw_all := lw_g (lw_at lw_m4 205 rfl) rfl
theorem q1061 : (Jvm.Cond.methodLink "java/lang/NullPointerException" (1 : Nat) ({ cls := "java/lang/RuntimeException", name := "<init>", desc := "()V" } : Jvm.MethodName)) ∈ lw_all := lw_g (lw_at lw_m4 206 rfl) rfl
theorem q1068 : (Jvm.Cond.fieldLink "java/lang/NullPointerException" (10 : Nat) "java/lang/NullPointerException" "extendedMessageState" "I") ∈ lw_all := lw_g (lw_at lw_m4 213 rfl) rfl
theorem q1069 : (Jvm.Cond.fieldLink "java/lang/NullPointerException" (20 : Nat) "java/lang/NullPointerException" "extendedMessage" "Ljava/lang/String;") ∈ lw_all := lw_g (lw_at lw_m4 214 rfl) rfl
theorem q1070 : (Jvm.Cond.lays "java/lang/NullPointerException" "java/lang/NullPointerException" "extendedMessageState" "I") ∈ lw_all := lw_g (lw_at lw_m4 215 rfl) rfl
theorem q1071 : (Jvm.Cond.soleField "java/lang/NullPointerException" "extendedMessageState") ∈ lw_all := lw_g (lw_at lw_m4 216 rfl) rfl
theorem q1072 : (Jvm.Cond.lays "java/lang/NullPointerException" "java/lang/NullPointerException" "extendedMessage" "Ljava/lang/String;") ∈ lw_all := lw_g (lw_at lw_m4 217 rfl) rfl
theorem q1073 : (Jvm.Cond.soleField "java/lang/NullPointerException" "extendedMessage") ∈ lw_all := lw_g (lw_at lw_m4 218 rfl) rfl
theorem q1074 : (Jvm.Cond.lays "java/lang/NullPointerException" "java/lang/Throwable" "backtrace" "Ljava/lang/Object;") ∈ lw_all := lw_g (lw_at lw_m4 219 rfl) rfl
theorem q1075 : (Jvm.Cond.lays "java/lang/NullPointerException" "java/lang/Throwable" "detailMessage" "Ljava/lang/String;") ∈ lw_all := lw_g (lw_at lw_m4 220 rfl) rfl
theorem q1076 : (Jvm.Cond.lays "java/lang/NullPointerException" "java/lang/Throwable" "cause" "Ljava/lang/Throwable;") ∈ lw_all := lw_g (lw_at lw_m4 221 rfl) rfl
theorem q1077 : (Jvm.Cond.lays "java/lang/NullPointerException" "java/lang/Throwable" "stackTrace" "[Ljava/lang/StackTraceElement;") ∈ lw_all := lw_g (lw_at lw_m4 222 rfl) rfl
theorem q1078 : (Jvm.Cond.lays "java/lang/NullPointerException" "java/lang/Throwable" "depth" "I") ∈ lw_all := lw_g (lw_at lw_m4 223 rfl) rfl
theorem q1079 : (Jvm.Cond.lays "java/lang/NullPointerException" "java/lang/Throwable" "suppressedExceptions" "Ljava/util/List;") ∈ lw_all := lw_g (lw_at lw_m4 224 rfl) rfl
theorem q1080 : (Jvm.Cond.castable "java/lang/NullPointerException" "java/lang/NullPointerException") ∈ lw_tbl := lw_at lw_m4 225 rfl
theorem q1083 : (Jvm.Cond.selects "java/lang/NullPointerException" ({ cls := "java/lang/Throwable", name := "fillInStackTrace", desc := "(I)Ljava/lang/Throwable;" } : Jvm.MethodName) ({ cls := "java/lang/Throwable", name := "fillInStackTrace", desc := "(I)Ljava/lang/Throwable;" } : Jvm.MethodName)) ∈ lw_all := lw_g (lw_at lw_m4 228 rfl) rfl
theorem q2102 : (Jvm.Cond.castable "java/lang/NullPointerException" "java/lang/Object") ∈ lw_tbl := lw_at lw_m9 47 rfl
theorem in_J15 : ∀ w ∈ wsJ150, w ∈ lw_all := lw_in wsJ150 [1074, 1075, 1076, 1077, 1078, 1079, 1070, 1072] (by decide +kernel) (by decide +kernel)

/-! java/lang/NegativeArraySizeException -/
set_option maxRecDepth 100000
def RJ16 : String := "java/lang/NegativeArraySizeException"
def TJ16 : u_T := fun k => match k with
  | 0 => ("java/lang/Throwable", "backtrace", "Ljava/lang/Object;", false)
  | 1 => ("java/lang/Throwable", "detailMessage", "Ljava/lang/String;", false)
  | 2 => ("java/lang/Throwable", "cause", "Ljava/lang/Throwable;", false)
  | 3 => ("java/lang/Throwable", "stackTrace", "[Ljava/lang/StackTraceElement;", false)
  | 4 => ("java/lang/Throwable", "depth", "I", false)
  | _ => ("java/lang/Throwable", "suppressedExceptions", "Ljava/util/List;", false)
def tyJ16 : Nat → FieldType := fun k => match k with
  | 0 => .object "java/lang/Object"
  | 1 => .object "java/lang/String"
  | 2 => .object "java/lang/Throwable"
  | 3 => .array (.object "java/lang/StackTraceElement")
  | 4 => .int
  | _ => .object "java/util/List"
abbrev wsJ160 : List Cond := u_ws RJ16 TJ16 6
theorem nmJ16 : ∀ a, a < 6 → ∀ b, b < 6 → a ≠ b → (TJ16 a).2.1 ≠ (TJ16 b).2.1 := by decide +kernel
theorem tyJ16_ok : ∀ k, k < 6 → parseFieldDescriptor (TJ16 k).2.2.1 = some (tyJ16 k) := by decide +kernel
abbrev cJ16_init : ByteArray := prog_27_method_2_code
def yJ16_init : MethodName := ⟨RJ16, "<init>", "(Ljava/lang/String;)V"⟩
def dkwJ16_init_0 : List UInt8 := [42, 43, 183, 0, 7, 177]
abbrev dktJ16_init_0 : List UInt8 := dkwJ16_init_0 ++ []
theorem dksJ16_init_0 : cJ16_init.data.toList.drop 0 = dktJ16_init_0 := by decide +kernel
theorem dJ16_init_0 : decode cJ16_init 0 = .ok (.aload_n 0, 1) := dk_42 (dk_at dksJ16_init_0 0 rfl rfl)
theorem dJ16_init_1 : decode cJ16_init 1 = .ok (.aload_n 1, 1) := dk_43 (dk_at dksJ16_init_0 1 rfl rfl)
theorem dJ16_init_2 : decode cJ16_init 2 = .ok (.invokespecial 7, 3) := dk_183 0 7 (dk_at dksJ16_init_0 2 rfl rfl)
theorem dJ16_init_5 : decode cJ16_init 5 = .ok (.return_, 1) := dk_177 (dk_at dksJ16_init_0 5 rfl rfl)
theorem q167 : (Jvm.Cond.initialized "java/lang/NegativeArraySizeException") ∈ lw_all := lw_g (lw_at lw_m1 32 rfl) rfl
theorem q542 : (Jvm.Cond.selects "java/lang/NegativeArraySizeException" ({ cls := "java/lang/Throwable", name := "fillInStackTrace", desc := "()Ljava/lang/Throwable;" } : Jvm.MethodName) ({ cls := "java/lang/Throwable", name := "fillInStackTrace", desc := "()Ljava/lang/Throwable;" } : Jvm.MethodName)) ∈ lw_all := lw_g (lw_at lw_m2 167 rfl) rfl
theorem q725 : (Jvm.Cond.selects "java/lang/NegativeArraySizeException" ({ cls := "java/lang/Object", name := "getClass", desc := "()Ljava/lang/Class;" } : Jvm.MethodName) ({ cls := "java/lang/Object", name := "getClass", desc := "()Ljava/lang/Class;" } : Jvm.MethodName)) ∈ lw_all := lw_g (lw_at lw_m3 110 rfl) rfl
theorem q1310 : (Jvm.Cond.instantiable "java/lang/NegativeArraySizeException" (6 : Nat)) ∈ lw_all := lw_g (lw_at lw_m5 215 rfl) rfl
theorem q1311 : (Jvm.Cond.instanceMethod ({ cls := "java/lang/NegativeArraySizeException", name := "<init>", desc := "(Ljava/lang/String;)V" } : Jvm.MethodName)) ∈ lw_all := lw_g (lw_at lw_m5 216 rfl) rfl
theorem q1312 : (Jvm.Cond.code ({ cls := "java/lang/NegativeArraySizeException", name := "<init>", desc := "(Ljava/lang/String;)V" } : Jvm.MethodName) prog_27_method_2_code (2 : Nat) (Option.none : Option Jvm.ClassFile.FieldType)) ∈ lw_all := lw_g (lw_at lw_m5 217 rfl) rfl
theorem q1313 : (Jvm.Cond.methodLink "java/lang/NegativeArraySizeException" (7 : Nat) ({ cls := "java/lang/RuntimeException", name := "<init>", desc := "(Ljava/lang/String;)V" } : Jvm.MethodName)) ∈ lw_all := lw_g (lw_at lw_m5 218 rfl) rfl
theorem q1322 : (Jvm.Cond.lays "java/lang/NegativeArraySizeException" "java/lang/Throwable" "backtrace" "Ljava/lang/Object;") ∈ lw_all := lw_g (lw_at lw_m5 227 rfl) rfl
theorem q1323 : (Jvm.Cond.lays "java/lang/NegativeArraySizeException" "java/lang/Throwable" "detailMessage" "Ljava/lang/String;") ∈ lw_all := lw_g (lw_at lw_m5 228 rfl) rfl
theorem q1324 : (Jvm.Cond.lays "java/lang/NegativeArraySizeException" "java/lang/Throwable" "cause" "Ljava/lang/Throwable;") ∈ lw_all := lw_g (lw_at lw_m5 229 rfl) rfl
theorem q1325 : (Jvm.Cond.lays "java/lang/NegativeArraySizeException" "java/lang/Throwable" "stackTrace" "[Ljava/lang/StackTraceElement;") ∈ lw_all := lw_g (lw_at lw_m5 230 rfl) rfl
theorem q1326 : (Jvm.Cond.lays "java/lang/NegativeArraySizeException" "java/lang/Throwable" "depth" "I") ∈ lw_all := lw_g (lw_at lw_m5 231 rfl) rfl
theorem q1327 : (Jvm.Cond.lays "java/lang/NegativeArraySizeException" "java/lang/Throwable" "suppressedExceptions" "Ljava/util/List;") ∈ lw_all := lw_g (lw_at lw_m5 232 rfl) rfl
theorem q1328 : (Jvm.Cond.superclass "java/lang/NegativeArraySizeException" "java/lang/RuntimeException") ∈ lw_all := lw_g (lw_at lw_m5 233 rfl) rfl
theorem q1329 : (Jvm.Cond.castable "java/lang/NegativeArraySizeException" "java/lang/NegativeArraySizeException") ∈ lw_tbl := lw_at lw_m5 234 rfl
theorem q1330 : (Jvm.Cond.selects "java/lang/NegativeArraySizeException" ({ cls := "java/lang/Throwable", name := "fillInStackTrace", desc := "(I)Ljava/lang/Throwable;" } : Jvm.MethodName) ({ cls := "java/lang/Throwable", name := "fillInStackTrace", desc := "(I)Ljava/lang/Throwable;" } : Jvm.MethodName)) ∈ lw_all := lw_g (lw_at lw_m5 235 rfl) rfl
theorem q2103 : (Jvm.Cond.castable "java/lang/NegativeArraySizeException" "java/lang/Object") ∈ lw_tbl := lw_at lw_m9 48 rfl
theorem in_J16 : ∀ w ∈ wsJ160, w ∈ lw_all := lw_in wsJ160 [1322, 1323, 1324, 1325, 1326, 1327] (by decide +kernel) (by decide +kernel)

/-! java/lang/IndexOutOfBoundsException -/
set_option maxRecDepth 100000
def RJ17 : String := "java/lang/IndexOutOfBoundsException"
abbrev cJ17_init : ByteArray := prog_23_method_2_code
def yJ17_init : MethodName := ⟨RJ17, "<init>", "(Ljava/lang/String;)V"⟩
def dkwJ17_init_0 : List UInt8 := [42, 43, 183, 0, 7, 177]
abbrev dktJ17_init_0 : List UInt8 := dkwJ17_init_0 ++ []
theorem dksJ17_init_0 : cJ17_init.data.toList.drop 0 = dktJ17_init_0 := by decide +kernel
theorem dJ17_init_0 : decode cJ17_init 0 = .ok (.aload_n 0, 1) := dk_42 (dk_at dksJ17_init_0 0 rfl rfl)
theorem dJ17_init_1 : decode cJ17_init 1 = .ok (.aload_n 1, 1) := dk_43 (dk_at dksJ17_init_0 1 rfl rfl)
theorem dJ17_init_2 : decode cJ17_init 2 = .ok (.invokespecial 7, 3) := dk_183 0 7 (dk_at dksJ17_init_0 2 rfl rfl)
theorem dJ17_init_5 : decode cJ17_init 5 = .ok (.return_, 1) := dk_177 (dk_at dksJ17_init_0 5 rfl rfl)
theorem q168 : (Jvm.Cond.initialized "java/lang/IndexOutOfBoundsException") ∈ lw_all := lw_g (lw_at lw_m1 33 rfl) rfl
theorem q1351 : (Jvm.Cond.instanceMethod ({ cls := "java/lang/IndexOutOfBoundsException", name := "<init>", desc := "(Ljava/lang/String;)V" } : Jvm.MethodName)) ∈ lw_all := lw_g (lw_at lw_m6 16 rfl) rfl
theorem q1352 : (Jvm.Cond.code ({ cls := "java/lang/IndexOutOfBoundsException", name := "<init>", desc := "(Ljava/lang/String;)V" } : Jvm.MethodName) prog_23_method_2_code (2 : Nat) (Option.none : Option Jvm.ClassFile.FieldType)) ∈ lw_all := lw_g (lw_at lw_m6 17 rfl) rfl
theorem q1353 : (Jvm.Cond.methodLink "java/lang/IndexOutOfBoundsException" (7 : Nat) ({ cls := "java/lang/RuntimeException", name := "<init>", desc := "(Ljava/lang/String;)V" } : Jvm.MethodName)) ∈ lw_all := lw_g (lw_at lw_m6 18 rfl) rfl
theorem q1362 : (Jvm.Cond.declares ({ cls := "java/lang/IndexOutOfBoundsException", name := "<init>", desc := "()V" } : Jvm.MethodName)) ∈ lw_tbl := lw_at lw_m6 27 rfl
theorem q1363 : (Jvm.Cond.declares ({ cls := "java/lang/IndexOutOfBoundsException", name := "<init>", desc := "(Ljava/lang/String;)V" } : Jvm.MethodName)) ∈ lw_tbl := lw_at lw_m6 28 rfl

/-! java/lang/ArrayIndexOutOfBoundsException -/
set_option maxRecDepth 100000
def RJ18 : String := "java/lang/ArrayIndexOutOfBoundsException"
def TJ18 : u_T := fun k => match k with
  | 0 => ("java/lang/Throwable", "backtrace", "Ljava/lang/Object;", false)
  | 1 => ("java/lang/Throwable", "detailMessage", "Ljava/lang/String;", false)
  | 2 => ("java/lang/Throwable", "cause", "Ljava/lang/Throwable;", false)
  | 3 => ("java/lang/Throwable", "stackTrace", "[Ljava/lang/StackTraceElement;", false)
  | 4 => ("java/lang/Throwable", "depth", "I", false)
  | _ => ("java/lang/Throwable", "suppressedExceptions", "Ljava/util/List;", false)
def tyJ18 : Nat → FieldType := fun k => match k with
  | 0 => .object "java/lang/Object"
  | 1 => .object "java/lang/String"
  | 2 => .object "java/lang/Throwable"
  | 3 => .array (.object "java/lang/StackTraceElement")
  | 4 => .int
  | _ => .object "java/util/List"
abbrev wsJ180 : List Cond := u_ws RJ18 TJ18 6
theorem nmJ18 : ∀ a, a < 6 → ∀ b, b < 6 → a ≠ b → (TJ18 a).2.1 ≠ (TJ18 b).2.1 := by decide +kernel
theorem tyJ18_ok : ∀ k, k < 6 → parseFieldDescriptor (TJ18 k).2.2.1 = some (tyJ18 k) := by decide +kernel
abbrev cJ18_init : ByteArray := prog_16_method_2_code
def yJ18_init : MethodName := ⟨RJ18, "<init>", "(Ljava/lang/String;)V"⟩
def dkwJ18_init_0 : List UInt8 := [42, 43, 183, 0, 7, 177]
abbrev dktJ18_init_0 : List UInt8 := dkwJ18_init_0 ++ []
theorem dksJ18_init_0 : cJ18_init.data.toList.drop 0 = dktJ18_init_0 := by decide +kernel
theorem dJ18_init_0 : decode cJ18_init 0 = .ok (.aload_n 0, 1) := dk_42 (dk_at dksJ18_init_0 0 rfl rfl)
theorem dJ18_init_1 : decode cJ18_init 1 = .ok (.aload_n 1, 1) := dk_43 (dk_at dksJ18_init_0 1 rfl rfl)
theorem dJ18_init_2 : decode cJ18_init 2 = .ok (.invokespecial 7, 3) := dk_183 0 7 (dk_at dksJ18_init_0 2 rfl rfl)
theorem dJ18_init_5 : decode cJ18_init 5 = .ok (.return_, 1) := dk_177 (dk_at dksJ18_init_0 5 rfl rfl)
theorem q169 : (Jvm.Cond.initialized "java/lang/ArrayIndexOutOfBoundsException") ∈ lw_all := lw_g (lw_at lw_m1 34 rfl) rfl
theorem q540 : (Jvm.Cond.selects "java/lang/ArrayIndexOutOfBoundsException" ({ cls := "java/lang/Throwable", name := "fillInStackTrace", desc := "()Ljava/lang/Throwable;" } : Jvm.MethodName) ({ cls := "java/lang/Throwable", name := "fillInStackTrace", desc := "()Ljava/lang/Throwable;" } : Jvm.MethodName)) ∈ lw_all := lw_g (lw_at lw_m2 165 rfl) rfl
theorem q723 : (Jvm.Cond.selects "java/lang/ArrayIndexOutOfBoundsException" ({ cls := "java/lang/Object", name := "getClass", desc := "()Ljava/lang/Class;" } : Jvm.MethodName) ({ cls := "java/lang/Object", name := "getClass", desc := "()Ljava/lang/Class;" } : Jvm.MethodName)) ∈ lw_all := lw_g (lw_at lw_m3 108 rfl) rfl
theorem q1347 : (Jvm.Cond.instantiable "java/lang/ArrayIndexOutOfBoundsException" (6 : Nat)) ∈ lw_all := lw_g (lw_at lw_m6 12 rfl) rfl
theorem q1348 : (Jvm.Cond.instanceMethod ({ cls := "java/lang/ArrayIndexOutOfBoundsException", name := "<init>", desc := "(Ljava/lang/String;)V" } : Jvm.MethodName)) ∈ lw_all := lw_g (lw_at lw_m6 13 rfl) rfl
theorem q1349 : (Jvm.Cond.code ({ cls := "java/lang/ArrayIndexOutOfBoundsException", name := "<init>", desc := "(Ljava/lang/String;)V" } : Jvm.MethodName) prog_16_method_2_code (2 : Nat) (Option.none : Option Jvm.ClassFile.FieldType)) ∈ lw_all := lw_g (lw_at lw_m6 14 rfl) rfl
theorem q1350 : (Jvm.Cond.methodLink "java/lang/ArrayIndexOutOfBoundsException" (7 : Nat) ({ cls := "java/lang/IndexOutOfBoundsException", name := "<init>", desc := "(Ljava/lang/String;)V" } : Jvm.MethodName)) ∈ lw_all := lw_g (lw_at lw_m6 15 rfl) rfl
theorem q1354 : (Jvm.Cond.lays "java/lang/ArrayIndexOutOfBoundsException" "java/lang/Throwable" "backtrace" "Ljava/lang/Object;") ∈ lw_all := lw_g (lw_at lw_m6 19 rfl) rfl
theorem q1355 : (Jvm.Cond.lays "java/lang/ArrayIndexOutOfBoundsException" "java/lang/Throwable" "detailMessage" "Ljava/lang/String;") ∈ lw_all := lw_g (lw_at lw_m6 20 rfl) rfl
theorem q1356 : (Jvm.Cond.lays "java/lang/ArrayIndexOutOfBoundsException" "java/lang/Throwable" "cause" "Ljava/lang/Throwable;") ∈ lw_all := lw_g (lw_at lw_m6 21 rfl) rfl
theorem q1357 : (Jvm.Cond.lays "java/lang/ArrayIndexOutOfBoundsException" "java/lang/Throwable" "stackTrace" "[Ljava/lang/StackTraceElement;") ∈ lw_all := lw_g (lw_at lw_m6 22 rfl) rfl
theorem q1358 : (Jvm.Cond.lays "java/lang/ArrayIndexOutOfBoundsException" "java/lang/Throwable" "depth" "I") ∈ lw_all := lw_g (lw_at lw_m6 23 rfl) rfl
theorem q1359 : (Jvm.Cond.lays "java/lang/ArrayIndexOutOfBoundsException" "java/lang/Throwable" "suppressedExceptions" "Ljava/util/List;") ∈ lw_all := lw_g (lw_at lw_m6 24 rfl) rfl
theorem q1360 : (Jvm.Cond.superclass "java/lang/ArrayIndexOutOfBoundsException" "java/lang/IndexOutOfBoundsException") ∈ lw_all := lw_g (lw_at lw_m6 25 rfl) rfl
theorem q1361 : (Jvm.Cond.castable "java/lang/ArrayIndexOutOfBoundsException" "java/lang/ArrayIndexOutOfBoundsException") ∈ lw_tbl := lw_at lw_m6 26 rfl
theorem q1364 : (Jvm.Cond.selects "java/lang/ArrayIndexOutOfBoundsException" ({ cls := "java/lang/Throwable", name := "fillInStackTrace", desc := "(I)Ljava/lang/Throwable;" } : Jvm.MethodName) ({ cls := "java/lang/Throwable", name := "fillInStackTrace", desc := "(I)Ljava/lang/Throwable;" } : Jvm.MethodName)) ∈ lw_all := lw_g (lw_at lw_m6 29 rfl) rfl
theorem q2083 : (Jvm.Cond.castable "java/lang/ArrayIndexOutOfBoundsException" "java/lang/IndexOutOfBoundsException") ∈ lw_tbl := lw_at lw_m9 28 rfl
theorem q2104 : (Jvm.Cond.castable "java/lang/ArrayIndexOutOfBoundsException" "java/lang/Object") ∈ lw_tbl := lw_at lw_m9 49 rfl
theorem in_J18 : ∀ w ∈ wsJ180, w ∈ lw_all := lw_in wsJ180 [1354, 1355, 1356, 1357, 1358, 1359] (by decide +kernel) (by decide +kernel)

/-! java/lang/ArrayStoreException -/
set_option maxRecDepth 100000
def RJ19 : String := "java/lang/ArrayStoreException"
def TJ19 : u_T := fun k => match k with
  | 0 => ("java/lang/Throwable", "backtrace", "Ljava/lang/Object;", false)
  | 1 => ("java/lang/Throwable", "detailMessage", "Ljava/lang/String;", false)
  | 2 => ("java/lang/Throwable", "cause", "Ljava/lang/Throwable;", false)
  | 3 => ("java/lang/Throwable", "stackTrace", "[Ljava/lang/StackTraceElement;", false)
  | 4 => ("java/lang/Throwable", "depth", "I", false)
  | _ => ("java/lang/Throwable", "suppressedExceptions", "Ljava/util/List;", false)
def tyJ19 : Nat → FieldType := fun k => match k with
  | 0 => .object "java/lang/Object"
  | 1 => .object "java/lang/String"
  | 2 => .object "java/lang/Throwable"
  | 3 => .array (.object "java/lang/StackTraceElement")
  | 4 => .int
  | _ => .object "java/util/List"
abbrev wsJ190 : List Cond := u_ws RJ19 TJ19 6
theorem nmJ19 : ∀ a, a < 6 → ∀ b, b < 6 → a ≠ b → (TJ19 a).2.1 ≠ (TJ19 b).2.1 := by decide +kernel
theorem tyJ19_ok : ∀ k, k < 6 → parseFieldDescriptor (TJ19 k).2.2.1 = some (tyJ19 k) := by decide +kernel
abbrev cJ19_init : ByteArray := prog_17_method_2_code
def yJ19_init : MethodName := ⟨RJ19, "<init>", "(Ljava/lang/String;)V"⟩
def dkwJ19_init_0 : List UInt8 := [42, 43, 183, 0, 7, 177]
abbrev dktJ19_init_0 : List UInt8 := dkwJ19_init_0 ++ []
theorem dksJ19_init_0 : cJ19_init.data.toList.drop 0 = dktJ19_init_0 := by decide +kernel
theorem dJ19_init_0 : decode cJ19_init 0 = .ok (.aload_n 0, 1) := dk_42 (dk_at dksJ19_init_0 0 rfl rfl)
theorem dJ19_init_1 : decode cJ19_init 1 = .ok (.aload_n 1, 1) := dk_43 (dk_at dksJ19_init_0 1 rfl rfl)
theorem dJ19_init_2 : decode cJ19_init 2 = .ok (.invokespecial 7, 3) := dk_183 0 7 (dk_at dksJ19_init_0 2 rfl rfl)
theorem dJ19_init_5 : decode cJ19_init 5 = .ok (.return_, 1) := dk_177 (dk_at dksJ19_init_0 5 rfl rfl)
theorem q170 : (Jvm.Cond.initialized "java/lang/ArrayStoreException") ∈ lw_all := lw_g (lw_at lw_m1 35 rfl) rfl
theorem q541 : (Jvm.Cond.selects "java/lang/ArrayStoreException" ({ cls := "java/lang/Throwable", name := "fillInStackTrace", desc := "()Ljava/lang/Throwable;" } : Jvm.MethodName) ({ cls := "java/lang/Throwable", name := "fillInStackTrace", desc := "()Ljava/lang/Throwable;" } : Jvm.MethodName)) ∈ lw_all := lw_g (lw_at lw_m2 166 rfl) rfl
theorem q724 : (Jvm.Cond.selects "java/lang/ArrayStoreException" ({ cls := "java/lang/Object", name := "getClass", desc := "()Ljava/lang/Class;" } : Jvm.MethodName) ({ cls := "java/lang/Object", name := "getClass", desc := "()Ljava/lang/Class;" } : Jvm.MethodName)) ∈ lw_all := lw_g (lw_at lw_m3 109 rfl) rfl
theorem q1374 : (Jvm.Cond.instantiable "java/lang/ArrayStoreException" (6 : Nat)) ∈ lw_all := lw_g (lw_at lw_m6 39 rfl) rfl
theorem q1375 : (Jvm.Cond.instanceMethod ({ cls := "java/lang/ArrayStoreException", name := "<init>", desc := "(Ljava/lang/String;)V" } : Jvm.MethodName)) ∈ lw_all := lw_g (lw_at lw_m6 40 rfl) rfl
theorem q1376 : (Jvm.Cond.code ({ cls := "java/lang/ArrayStoreException", name := "<init>", desc := "(Ljava/lang/String;)V" } : Jvm.MethodName) prog_17_method_2_code (2 : Nat) (Option.none : Option Jvm.ClassFile.FieldType)) ∈ lw_all := lw_g (lw_at lw_m6 41 rfl) rfl
theorem q1377 : (Jvm.Cond.methodLink "java/lang/ArrayStoreException" (7 : Nat) ({ cls := "java/lang/RuntimeException", name := "<init>", desc := "(Ljava/lang/String;)V" } : Jvm.MethodName)) ∈ lw_all := lw_g (lw_at lw_m6 42 rfl) rfl
theorem q1378 : (Jvm.Cond.lays "java/lang/ArrayStoreException" "java/lang/Throwable" "backtrace" "Ljava/lang/Object;") ∈ lw_all := lw_g (lw_at lw_m6 43 rfl) rfl
theorem q1379 : (Jvm.Cond.lays "java/lang/ArrayStoreException" "java/lang/Throwable" "detailMessage" "Ljava/lang/String;") ∈ lw_all := lw_g (lw_at lw_m6 44 rfl) rfl
theorem q1380 : (Jvm.Cond.lays "java/lang/ArrayStoreException" "java/lang/Throwable" "cause" "Ljava/lang/Throwable;") ∈ lw_all := lw_g (lw_at lw_m6 45 rfl) rfl
theorem q1381 : (Jvm.Cond.lays "java/lang/ArrayStoreException" "java/lang/Throwable" "stackTrace" "[Ljava/lang/StackTraceElement;") ∈ lw_all := lw_g (lw_at lw_m6 46 rfl) rfl
theorem q1382 : (Jvm.Cond.lays "java/lang/ArrayStoreException" "java/lang/Throwable" "depth" "I") ∈ lw_all := lw_g (lw_at lw_m6 47 rfl) rfl
theorem q1383 : (Jvm.Cond.lays "java/lang/ArrayStoreException" "java/lang/Throwable" "suppressedExceptions" "Ljava/util/List;") ∈ lw_all := lw_g (lw_at lw_m6 48 rfl) rfl
theorem q1384 : (Jvm.Cond.superclass "java/lang/ArrayStoreException" "java/lang/RuntimeException") ∈ lw_all := lw_g (lw_at lw_m6 49 rfl) rfl
theorem q1385 : (Jvm.Cond.castable "java/lang/ArrayStoreException" "java/lang/ArrayStoreException") ∈ lw_tbl := lw_at lw_m6 50 rfl
theorem q1386 : (Jvm.Cond.selects "java/lang/ArrayStoreException" ({ cls := "java/lang/Throwable", name := "fillInStackTrace", desc := "(I)Ljava/lang/Throwable;" } : Jvm.MethodName) ({ cls := "java/lang/Throwable", name := "fillInStackTrace", desc := "(I)Ljava/lang/Throwable;" } : Jvm.MethodName)) ∈ lw_all := lw_g (lw_at lw_m6 51 rfl) rfl
theorem q2105 : (Jvm.Cond.castable "java/lang/ArrayStoreException" "java/lang/Object") ∈ lw_tbl := lw_at lw_m9 50 rfl
theorem in_J19 : ∀ w ∈ wsJ190, w ∈ lw_all := lw_in wsJ190 [1378, 1379, 1380, 1381, 1382, 1383] (by decide +kernel) (by decide +kernel)

/-! java/util/ArrayList -/
set_option maxRecDepth 100000
def RJ2 : String := "java/util/ArrayList"
def TJ2 : u_T := fun k => match k with
  | 0 => ("java/util/AbstractList", "modCount", "I", false)
  | 1 => ("java/util/ArrayList", "elementData", "[Ljava/lang/Object;", false)
  | _ => ("java/util/ArrayList", "size", "I", false)
def tyJ2 : Nat → FieldType := fun k => match k with
  | 0 => .int
  | 1 => .array (.object "java/lang/Object")
  | _ => .int
abbrev wsJ20 : List Cond := u_ws RJ2 TJ2 3
theorem nmJ2 : ∀ a, a < 3 → ∀ b, b < 3 → a ≠ b → (TJ2 a).2.1 ≠ (TJ2 b).2.1 := by decide +kernel
theorem tyJ2_ok : ∀ k, k < 3 → parseFieldDescriptor (TJ2 k).2.2.1 = some (tyJ2 k) := by decide +kernel
abbrev cJ2_init : ByteArray := prog_39_method_2_code
def yJ2_init : MethodName := ⟨RJ2, "<init>", "()V"⟩
def dkwJ2_init_0 : List UInt8 := [42, 183, 0, 1, 42, 178, 0, 39, 181, 0, 9, 177]
abbrev dktJ2_init_0 : List UInt8 := dkwJ2_init_0 ++ []
theorem dksJ2_init_0 : cJ2_init.data.toList.drop 0 = dktJ2_init_0 := by decide +kernel
theorem dJ2_init_0 : decode cJ2_init 0 = .ok (.aload_n 0, 1) := dk_42 (dk_at dksJ2_init_0 0 rfl rfl)
theorem dJ2_init_1 : decode cJ2_init 1 = .ok (.invokespecial 1, 3) := dk_183 0 1 (dk_at dksJ2_init_0 1 rfl rfl)
theorem dJ2_init_4 : decode cJ2_init 4 = .ok (.aload_n 0, 1) := dk_42 (dk_at dksJ2_init_0 4 rfl rfl)
theorem dJ2_init_5 : decode cJ2_init 5 = .ok (.getstatic 39, 3) := dk_178 0 39 (dk_at dksJ2_init_0 5 rfl rfl)
theorem dJ2_init_8 : decode cJ2_init 8 = .ok (.putfield 9, 3) := dk_181 0 9 (dk_at dksJ2_init_0 8 rfl rfl)
theorem dJ2_init_11 : decode cJ2_init 11 = .ok (.return_, 1) := dk_177 (dk_at dksJ2_init_0 11 rfl rfl)
abbrev cJ2_isEmpty : ByteArray := prog_39_method_9_code
def yJ2_isEmpty : MethodName := ⟨RJ2, "isEmpty", "()Z"⟩
def dkwJ2_isEmpty_0 : List UInt8 := [42, 180, 0, 48, 154, 0, 7, 4, 167, 0, 4, 3, 172]
abbrev dktJ2_isEmpty_0 : List UInt8 := dkwJ2_isEmpty_0 ++ []
theorem dksJ2_isEmpty_0 : cJ2_isEmpty.data.toList.drop 0 = dktJ2_isEmpty_0 := by decide +kernel
theorem dJ2_isEmpty_0 : decode cJ2_isEmpty 0 = .ok (.aload_n 0, 1) := dk_42 (dk_at dksJ2_isEmpty_0 0 rfl rfl)
theorem dJ2_isEmpty_1 : decode cJ2_isEmpty 1 = .ok (.getfield 48, 3) := dk_180 0 48 (dk_at dksJ2_isEmpty_0 1 rfl rfl)
theorem dJ2_isEmpty_4 : decode cJ2_isEmpty 4 = .ok (.ifCond .ne 7, 3) := dk_154 0 7 (dk_at dksJ2_isEmpty_0 4 rfl rfl)
theorem dJ2_isEmpty_7 : decode cJ2_isEmpty 7 = .ok (.iconst 1, 1) := dk_4 (dk_at dksJ2_isEmpty_0 7 rfl rfl)
theorem dJ2_isEmpty_8 : decode cJ2_isEmpty 8 = .ok (.goto 4, 3) := dk_167 0 4 (dk_at dksJ2_isEmpty_0 8 rfl rfl)
theorem dJ2_isEmpty_11 : decode cJ2_isEmpty 11 = .ok (.iconst 0, 1) := dk_3 (dk_at dksJ2_isEmpty_0 11 rfl rfl)
theorem dJ2_isEmpty_12 : decode cJ2_isEmpty 12 = .ok (.ireturn, 1) := dk_172 (dk_at dksJ2_isEmpty_0 12 rfl rfl)
abbrev cJ2_add : ByteArray := prog_39_method_25_code
def yJ2_add : MethodName := ⟨RJ2, "add", "(Ljava/lang/Object;)Z"⟩
def dkwJ2_add_1 : List UInt8 := [172]
abbrev dktJ2_add_1 : List UInt8 := dkwJ2_add_1 ++ []
def dkwJ2_add_0 : List UInt8 := [42, 89, 180, 0, 63, 4, 96, 181, 0, 63, 42, 43, 42, 180, 0, 9, 42, 180, 0, 48, 182, 0, 131, 4]
abbrev dktJ2_add_0 : List UInt8 := dkwJ2_add_0 ++ dktJ2_add_1
theorem dksJ2_add_0 : cJ2_add.data.toList.drop 0 = dktJ2_add_0 := by decide +kernel
theorem dksJ2_add_1 : cJ2_add.data.toList.drop 24 = dktJ2_add_1 := dk_seg dksJ2_add_0 24 rfl rfl
theorem dJ2_add_0 : decode cJ2_add 0 = .ok (.aload_n 0, 1) := dk_42 (dk_at dksJ2_add_0 0 rfl rfl)
theorem dJ2_add_1 : decode cJ2_add 1 = .ok (.dup, 1) := dk_89 (dk_at dksJ2_add_0 1 rfl rfl)
theorem dJ2_add_2 : decode cJ2_add 2 = .ok (.getfield 63, 3) := dk_180 0 63 (dk_at dksJ2_add_0 2 rfl rfl)
theorem dJ2_add_5 : decode cJ2_add 5 = .ok (.iconst 1, 1) := dk_4 (dk_at dksJ2_add_0 5 rfl rfl)
theorem dJ2_add_6 : decode cJ2_add 6 = .ok (.iadd, 1) := dk_96 (dk_at dksJ2_add_0 6 rfl rfl)
theorem dJ2_add_7 : decode cJ2_add 7 = .ok (.putfield 63, 3) := dk_181 0 63 (dk_at dksJ2_add_0 7 rfl rfl)
theorem dJ2_add_10 : decode cJ2_add 10 = .ok (.aload_n 0, 1) := dk_42 (dk_at dksJ2_add_0 10 rfl rfl)
theorem dJ2_add_11 : decode cJ2_add 11 = .ok (.aload_n 1, 1) := dk_43 (dk_at dksJ2_add_0 11 rfl rfl)
theorem dJ2_add_12 : decode cJ2_add 12 = .ok (.aload_n 0, 1) := dk_42 (dk_at dksJ2_add_0 12 rfl rfl)
theorem dJ2_add_13 : decode cJ2_add 13 = .ok (.getfield 9, 3) := dk_180 0 9 (dk_at dksJ2_add_0 13 rfl rfl)
theorem dJ2_add_16 : decode cJ2_add 16 = .ok (.aload_n 0, 1) := dk_42 (dk_at dksJ2_add_0 16 rfl rfl)
theorem dJ2_add_17 : decode cJ2_add 17 = .ok (.getfield 48, 3) := dk_180 0 48 (dk_at dksJ2_add_0 17 rfl rfl)
theorem dJ2_add_20 : decode cJ2_add 20 = .ok (.invokevirtual 131, 3) := dk_182 0 131 (dk_at dksJ2_add_0 20 rfl rfl)
theorem dJ2_add_23 : decode cJ2_add 23 = .ok (.iconst 1, 1) := dk_4 (dk_at dksJ2_add_0 23 rfl rfl)
theorem dJ2_add_24 : decode cJ2_add 24 = .ok (.ireturn, 1) := dk_172 (dk_at dksJ2_add_1 0 rfl rfl)
abbrev cJ2_add_2 : ByteArray := prog_39_method_24_code
def yJ2_add_2 : MethodName := ⟨RJ2, "add", "(Ljava/lang/Object;[Ljava/lang/Object;I)V"⟩
def dkwJ2_add_2_0 : List UInt8 := [29, 44, 190, 160, 0, 8, 42, 182, 0, 129, 77, 44, 29, 43, 83, 42, 29, 4, 96, 181, 0, 48, 177]
abbrev dktJ2_add_2_0 : List UInt8 := dkwJ2_add_2_0 ++ []
theorem dksJ2_add_2_0 : cJ2_add_2.data.toList.drop 0 = dktJ2_add_2_0 := by decide +kernel
theorem dJ2_add_2_0 : decode cJ2_add_2 0 = .ok (.iload_n 3, 1) := dk_29 (dk_at dksJ2_add_2_0 0 rfl rfl)
theorem dJ2_add_2_1 : decode cJ2_add_2 1 = .ok (.aload_n 2, 1) := dk_44 (dk_at dksJ2_add_2_0 1 rfl rfl)
theorem dJ2_add_2_2 : decode cJ2_add_2 2 = .ok (.arraylength, 1) := dk_190 (dk_at dksJ2_add_2_0 2 rfl rfl)
theorem dJ2_add_2_3 : decode cJ2_add_2 3 = .ok (.if_icmp .ne 8, 3) := dk_160 0 8 (dk_at dksJ2_add_2_0 3 rfl rfl)
theorem dJ2_add_2_6 : decode cJ2_add_2 6 = .ok (.aload_n 0, 1) := dk_42 (dk_at dksJ2_add_2_0 6 rfl rfl)
theorem dJ2_add_2_7 : decode cJ2_add_2 7 = .ok (.invokevirtual 129, 3) := dk_182 0 129 (dk_at dksJ2_add_2_0 7 rfl rfl)
theorem dJ2_add_2_10 : decode cJ2_add_2 10 = .ok (.astore_n 2, 1) := dk_77 (dk_at dksJ2_add_2_0 10 rfl rfl)
theorem dJ2_add_2_11 : decode cJ2_add_2 11 = .ok (.aload_n 2, 1) := dk_44 (dk_at dksJ2_add_2_0 11 rfl rfl)
theorem dJ2_add_2_12 : decode cJ2_add_2 12 = .ok (.iload_n 3, 1) := dk_29 (dk_at dksJ2_add_2_0 12 rfl rfl)
theorem dJ2_add_2_13 : decode cJ2_add_2 13 = .ok (.aload_n 1, 1) := dk_43 (dk_at dksJ2_add_2_0 13 rfl rfl)
theorem dJ2_add_2_14 : decode cJ2_add_2 14 = .ok (.aastore, 1) := dk_83 (dk_at dksJ2_add_2_0 14 rfl rfl)
theorem dJ2_add_2_15 : decode cJ2_add_2 15 = .ok (.aload_n 0, 1) := dk_42 (dk_at dksJ2_add_2_0 15 rfl rfl)
theorem dJ2_add_2_16 : decode cJ2_add_2 16 = .ok (.iload_n 3, 1) := dk_29 (dk_at dksJ2_add_2_0 16 rfl rfl)
theorem dJ2_add_2_17 : decode cJ2_add_2 17 = .ok (.iconst 1, 1) := dk_4 (dk_at dksJ2_add_2_0 17 rfl rfl)
theorem dJ2_add_2_18 : decode cJ2_add_2 18 = .ok (.iadd, 1) := dk_96 (dk_at dksJ2_add_2_0 18 rfl rfl)
theorem dJ2_add_2_19 : decode cJ2_add_2 19 = .ok (.putfield 48, 3) := dk_181 0 48 (dk_at dksJ2_add_2_0 19 rfl rfl)
theorem dJ2_add_2_22 : decode cJ2_add_2 22 = .ok (.return_, 1) := dk_177 (dk_at dksJ2_add_2_0 22 rfl rfl)
abbrev cJ2_grow : ByteArray := prog_39_method_7_code
def yJ2_grow : MethodName := ⟨RJ2, "grow", "()[Ljava/lang/Object;"⟩
def dkwJ2_grow_0 : List UInt8 := [42, 42, 180, 0, 48, 4, 96, 182, 0, 69, 176]
abbrev dktJ2_grow_0 : List UInt8 := dkwJ2_grow_0 ++ []
theorem dksJ2_grow_0 : cJ2_grow.data.toList.drop 0 = dktJ2_grow_0 := by decide +kernel
theorem dJ2_grow_0 : decode cJ2_grow 0 = .ok (.aload_n 0, 1) := dk_42 (dk_at dksJ2_grow_0 0 rfl rfl)
theorem dJ2_grow_1 : decode cJ2_grow 1 = .ok (.aload_n 0, 1) := dk_42 (dk_at dksJ2_grow_0 1 rfl rfl)
theorem dJ2_grow_2 : decode cJ2_grow 2 = .ok (.getfield 48, 3) := dk_180 0 48 (dk_at dksJ2_grow_0 2 rfl rfl)
theorem dJ2_grow_5 : decode cJ2_grow 5 = .ok (.iconst 1, 1) := dk_4 (dk_at dksJ2_grow_0 5 rfl rfl)
theorem dJ2_grow_6 : decode cJ2_grow 6 = .ok (.iadd, 1) := dk_96 (dk_at dksJ2_grow_0 6 rfl rfl)
theorem dJ2_grow_7 : decode cJ2_grow 7 = .ok (.invokevirtual 69, 3) := dk_182 0 69 (dk_at dksJ2_grow_0 7 rfl rfl)
theorem dJ2_grow_10 : decode cJ2_grow 10 = .ok (.areturn, 1) := dk_176 (dk_at dksJ2_grow_0 10 rfl rfl)
abbrev cJ2_grow_2 : ByteArray := prog_39_method_6_code
def yJ2_grow_2 : MethodName := ⟨RJ2, "grow", "(I)[Ljava/lang/Object;"⟩
def dkwJ2_grow_2_2 : List UInt8 := [27, 184, 0, 79, 189, 0, 7, 90, 181, 0, 9, 176]
abbrev dktJ2_grow_2_2 : List UInt8 := dkwJ2_grow_2_2 ++ []
def dkwJ2_grow_2_1 : List UInt8 := [28, 4, 122, 184, 0, 73, 62, 42, 42, 180, 0, 9, 29, 184, 0, 66, 90, 181, 0, 9, 176, 42, 16, 10]
abbrev dktJ2_grow_2_1 : List UInt8 := dkwJ2_grow_2_1 ++ dktJ2_grow_2_2
def dkwJ2_grow_2_0 : List UInt8 := [42, 180, 0, 9, 190, 61, 28, 157, 0, 13, 42, 180, 0, 9, 178, 0, 39, 165, 0, 28, 28, 27, 28, 100]
abbrev dktJ2_grow_2_0 : List UInt8 := dkwJ2_grow_2_0 ++ dktJ2_grow_2_1
theorem dksJ2_grow_2_0 : cJ2_grow_2.data.toList.drop 0 = dktJ2_grow_2_0 := by decide +kernel
theorem dksJ2_grow_2_1 : cJ2_grow_2.data.toList.drop 24 = dktJ2_grow_2_1 := dk_seg dksJ2_grow_2_0 24 rfl rfl
theorem dksJ2_grow_2_2 : cJ2_grow_2.data.toList.drop 48 = dktJ2_grow_2_2 := dk_seg dksJ2_grow_2_1 24 rfl rfl
theorem dJ2_grow_2_0 : decode cJ2_grow_2 0 = .ok (.aload_n 0, 1) := dk_42 (dk_at dksJ2_grow_2_0 0 rfl rfl)
theorem dJ2_grow_2_1 : decode cJ2_grow_2 1 = .ok (.getfield 9, 3) := dk_180 0 9 (dk_at dksJ2_grow_2_0 1 rfl rfl)
theorem dJ2_grow_2_4 : decode cJ2_grow_2 4 = .ok (.arraylength, 1) := dk_190 (dk_at dksJ2_grow_2_0 4 rfl rfl)
theorem dJ2_grow_2_5 : decode cJ2_grow_2 5 = .ok (.istore_n 2, 1) := dk_61 (dk_at dksJ2_grow_2_0 5 rfl rfl)
theorem dJ2_grow_2_6 : decode cJ2_grow_2 6 = .ok (.iload_n 2, 1) := dk_28 (dk_at dksJ2_grow_2_0 6 rfl rfl)
theorem dJ2_grow_2_7 : decode cJ2_grow_2 7 = .ok (.ifCond .gt 13, 3) := dk_157 0 13 (dk_at dksJ2_grow_2_0 7 rfl rfl)
theorem dJ2_grow_2_10 : decode cJ2_grow_2 10 = .ok (.aload_n 0, 1) := dk_42 (dk_at dksJ2_grow_2_0 10 rfl rfl)
theorem dJ2_grow_2_11 : decode cJ2_grow_2 11 = .ok (.getfield 9, 3) := dk_180 0 9 (dk_at dksJ2_grow_2_0 11 rfl rfl)
theorem dJ2_grow_2_14 : decode cJ2_grow_2 14 = .ok (.getstatic 39, 3) := dk_178 0 39 (dk_at dksJ2_grow_2_0 14 rfl rfl)
theorem dJ2_grow_2_17 : decode cJ2_grow_2 17 = .ok (.if_acmp .eq 28, 3) := dk_165 0 28 (dk_at dksJ2_grow_2_0 17 rfl rfl)
theorem dJ2_grow_2_20 : decode cJ2_grow_2 20 = .ok (.iload_n 2, 1) := dk_28 (dk_at dksJ2_grow_2_0 20 rfl rfl)
theorem dJ2_grow_2_21 : decode cJ2_grow_2 21 = .ok (.iload_n 1, 1) := dk_27 (dk_at dksJ2_grow_2_0 21 rfl rfl)
theorem dJ2_grow_2_22 : decode cJ2_grow_2 22 = .ok (.iload_n 2, 1) := dk_28 (dk_at dksJ2_grow_2_0 22 rfl rfl)
theorem dJ2_grow_2_23 : decode cJ2_grow_2 23 = .ok (.isub, 1) := dk_100 (dk_at dksJ2_grow_2_0 23 rfl rfl)
theorem dJ2_grow_2_24 : decode cJ2_grow_2 24 = .ok (.iload_n 2, 1) := dk_28 (dk_at dksJ2_grow_2_1 0 rfl rfl)
theorem dJ2_grow_2_25 : decode cJ2_grow_2 25 = .ok (.iconst 1, 1) := dk_4 (dk_at dksJ2_grow_2_1 1 rfl rfl)
theorem dJ2_grow_2_26 : decode cJ2_grow_2 26 = .ok (.ishr, 1) := dk_122 (dk_at dksJ2_grow_2_1 2 rfl rfl)
theorem dJ2_grow_2_27 : decode cJ2_grow_2 27 = .ok (.invokestatic 73, 3) := dk_184 0 73 (dk_at dksJ2_grow_2_1 3 rfl rfl)
theorem dJ2_grow_2_30 : decode cJ2_grow_2 30 = .ok (.istore_n 3, 1) := dk_62 (dk_at dksJ2_grow_2_1 6 rfl rfl)
theorem dJ2_grow_2_31 : decode cJ2_grow_2 31 = .ok (.aload_n 0, 1) := dk_42 (dk_at dksJ2_grow_2_1 7 rfl rfl)
theorem dJ2_grow_2_32 : decode cJ2_grow_2 32 = .ok (.aload_n 0, 1) := dk_42 (dk_at dksJ2_grow_2_1 8 rfl rfl)
theorem dJ2_grow_2_33 : decode cJ2_grow_2 33 = .ok (.getfield 9, 3) := dk_180 0 9 (dk_at dksJ2_grow_2_1 9 rfl rfl)
theorem dJ2_grow_2_36 : decode cJ2_grow_2 36 = .ok (.iload_n 3, 1) := dk_29 (dk_at dksJ2_grow_2_1 12 rfl rfl)
theorem dJ2_grow_2_37 : decode cJ2_grow_2 37 = .ok (.invokestatic 66, 3) := dk_184 0 66 (dk_at dksJ2_grow_2_1 13 rfl rfl)
theorem dJ2_grow_2_40 : decode cJ2_grow_2 40 = .ok (.dup_x1, 1) := dk_90 (dk_at dksJ2_grow_2_1 16 rfl rfl)
theorem dJ2_grow_2_41 : decode cJ2_grow_2 41 = .ok (.putfield 9, 3) := dk_181 0 9 (dk_at dksJ2_grow_2_1 17 rfl rfl)
theorem dJ2_grow_2_44 : decode cJ2_grow_2 44 = .ok (.areturn, 1) := dk_176 (dk_at dksJ2_grow_2_1 20 rfl rfl)
theorem dJ2_grow_2_45 : decode cJ2_grow_2 45 = .ok (.aload_n 0, 1) := dk_42 (dk_at dksJ2_grow_2_1 21 rfl rfl)
theorem dJ2_grow_2_46 : decode cJ2_grow_2 46 = .ok (.bipush 10, 2) := dk_16 10 (dk_at dksJ2_grow_2_1 22 rfl rfl)
theorem dJ2_grow_2_48 : decode cJ2_grow_2 48 = .ok (.iload_n 1, 1) := dk_27 (dk_at dksJ2_grow_2_2 0 rfl rfl)
theorem dJ2_grow_2_49 : decode cJ2_grow_2 49 = .ok (.invokestatic 79, 3) := dk_184 0 79 (dk_at dksJ2_grow_2_2 1 rfl rfl)
theorem dJ2_grow_2_52 : decode cJ2_grow_2 52 = .ok (.anewarray 7, 3) := dk_189 0 7 (dk_at dksJ2_grow_2_2 4 rfl rfl)
theorem dJ2_grow_2_55 : decode cJ2_grow_2 55 = .ok (.dup_x1, 1) := dk_90 (dk_at dksJ2_grow_2_2 7 rfl rfl)
theorem dJ2_grow_2_56 : decode cJ2_grow_2 56 = .ok (.putfield 9, 3) := dk_181 0 9 (dk_at dksJ2_grow_2_2 8 rfl rfl)
theorem dJ2_grow_2_59 : decode cJ2_grow_2 59 = .ok (.areturn, 1) := dk_176 (dk_at dksJ2_grow_2_2 11 rfl rfl)
abbrev cJ2_get : ByteArray := prog_39_method_20_code
def yJ2_get : MethodName := ⟨RJ2, "get", "(I)Ljava/lang/Object;"⟩
def dkwJ2_get_0 : List UInt8 := [27, 42, 180, 0, 48, 184, 0, 118, 87, 42, 27, 182, 0, 123, 176]
abbrev dktJ2_get_0 : List UInt8 := dkwJ2_get_0 ++ []
theorem dksJ2_get_0 : cJ2_get.data.toList.drop 0 = dktJ2_get_0 := by decide +kernel
theorem dJ2_get_0 : decode cJ2_get 0 = .ok (.iload_n 1, 1) := dk_27 (dk_at dksJ2_get_0 0 rfl rfl)
theorem dJ2_get_1 : decode cJ2_get 1 = .ok (.aload_n 0, 1) := dk_42 (dk_at dksJ2_get_0 1 rfl rfl)
theorem dJ2_get_2 : decode cJ2_get 2 = .ok (.getfield 48, 3) := dk_180 0 48 (dk_at dksJ2_get_0 2 rfl rfl)
theorem dJ2_get_5 : decode cJ2_get 5 = .ok (.invokestatic 118, 3) := dk_184 0 118 (dk_at dksJ2_get_0 5 rfl rfl)
theorem dJ2_get_8 : decode cJ2_get 8 = .ok (.pop, 1) := dk_87 (dk_at dksJ2_get_0 8 rfl rfl)
theorem dJ2_get_9 : decode cJ2_get 9 = .ok (.aload_n 0, 1) := dk_42 (dk_at dksJ2_get_0 9 rfl rfl)
theorem dJ2_get_10 : decode cJ2_get 10 = .ok (.iload_n 1, 1) := dk_27 (dk_at dksJ2_get_0 10 rfl rfl)
theorem dJ2_get_11 : decode cJ2_get 11 = .ok (.invokevirtual 123, 3) := dk_182 0 123 (dk_at dksJ2_get_0 11 rfl rfl)
theorem dJ2_get_14 : decode cJ2_get 14 = .ok (.areturn, 1) := dk_176 (dk_at dksJ2_get_0 14 rfl rfl)
abbrev cJ2_elementData : ByteArray := prog_39_method_18_code
def yJ2_elementData : MethodName := ⟨RJ2, "elementData", "(I)Ljava/lang/Object;"⟩
def dkwJ2_elementData_0 : List UInt8 := [42, 180, 0, 9, 27, 50, 176]
abbrev dktJ2_elementData_0 : List UInt8 := dkwJ2_elementData_0 ++ []
theorem dksJ2_elementData_0 : cJ2_elementData.data.toList.drop 0 = dktJ2_elementData_0 := by decide +kernel
theorem dJ2_elementData_0 : decode cJ2_elementData 0 = .ok (.aload_n 0, 1) := dk_42 (dk_at dksJ2_elementData_0 0 rfl rfl)
theorem dJ2_elementData_1 : decode cJ2_elementData 1 = .ok (.getfield 9, 3) := dk_180 0 9 (dk_at dksJ2_elementData_0 1 rfl rfl)
theorem dJ2_elementData_4 : decode cJ2_elementData 4 = .ok (.iload_n 1, 1) := dk_27 (dk_at dksJ2_elementData_0 4 rfl rfl)
theorem dJ2_elementData_5 : decode cJ2_elementData 5 = .ok (.aaload, 1) := dk_50 (dk_at dksJ2_elementData_0 5 rfl rfl)
theorem dJ2_elementData_6 : decode cJ2_elementData 6 = .ok (.areturn, 1) := dk_176 (dk_at dksJ2_elementData_0 6 rfl rfl)
abbrev cJ2_size : ByteArray := prog_39_method_8_code
def yJ2_size : MethodName := ⟨RJ2, "size", "()I"⟩
theorem dJ2_size_0 : decode cJ2_size 0 = .ok (.aload_n 0, 1) := by decide +kernel
theorem dJ2_size_1 : decode cJ2_size 1 = .ok (.getfield 48, 3) := by decide +kernel
theorem dJ2_size_4 : decode cJ2_size 4 = .ok (.ireturn, 1) := by decide +kernel
abbrev cJ2_set : ByteArray := prog_39_method_23_code
def yJ2_set : MethodName := ⟨RJ2, "set", "(ILjava/lang/Object;)Ljava/lang/Object;"⟩
def dkwJ2_set_0 : List UInt8 := [27, 42, 180, 0, 48, 184, 0, 118, 87, 42, 27, 182, 0, 123, 78, 42, 180, 0, 9, 27, 44, 83, 45, 176]
abbrev dktJ2_set_0 : List UInt8 := dkwJ2_set_0 ++ []
theorem dksJ2_set_0 : cJ2_set.data.toList.drop 0 = dktJ2_set_0 := by decide +kernel
theorem dJ2_set_0 : decode cJ2_set 0 = .ok (.iload_n 1, 1) := dk_27 (dk_at dksJ2_set_0 0 rfl rfl)
theorem dJ2_set_1 : decode cJ2_set 1 = .ok (.aload_n 0, 1) := dk_42 (dk_at dksJ2_set_0 1 rfl rfl)
theorem dJ2_set_2 : decode cJ2_set 2 = .ok (.getfield 48, 3) := dk_180 0 48 (dk_at dksJ2_set_0 2 rfl rfl)
theorem dJ2_set_5 : decode cJ2_set 5 = .ok (.invokestatic 118, 3) := dk_184 0 118 (dk_at dksJ2_set_0 5 rfl rfl)
theorem dJ2_set_8 : decode cJ2_set 8 = .ok (.pop, 1) := dk_87 (dk_at dksJ2_set_0 8 rfl rfl)
theorem dJ2_set_9 : decode cJ2_set 9 = .ok (.aload_n 0, 1) := dk_42 (dk_at dksJ2_set_0 9 rfl rfl)
theorem dJ2_set_10 : decode cJ2_set 10 = .ok (.iload_n 1, 1) := dk_27 (dk_at dksJ2_set_0 10 rfl rfl)
theorem dJ2_set_11 : decode cJ2_set 11 = .ok (.invokevirtual 123, 3) := dk_182 0 123 (dk_at dksJ2_set_0 11 rfl rfl)
theorem dJ2_set_14 : decode cJ2_set 14 = .ok (.astore_n 3, 1) := dk_78 (dk_at dksJ2_set_0 14 rfl rfl)
theorem dJ2_set_15 : decode cJ2_set 15 = .ok (.aload_n 0, 1) := dk_42 (dk_at dksJ2_set_0 15 rfl rfl)
theorem dJ2_set_16 : decode cJ2_set 16 = .ok (.getfield 9, 3) := dk_180 0 9 (dk_at dksJ2_set_0 16 rfl rfl)
theorem dJ2_set_19 : decode cJ2_set 19 = .ok (.iload_n 1, 1) := dk_27 (dk_at dksJ2_set_0 19 rfl rfl)
theorem dJ2_set_20 : decode cJ2_set 20 = .ok (.aload_n 2, 1) := dk_44 (dk_at dksJ2_set_0 20 rfl rfl)
theorem dJ2_set_21 : decode cJ2_set 21 = .ok (.aastore, 1) := dk_83 (dk_at dksJ2_set_0 21 rfl rfl)
theorem dJ2_set_22 : decode cJ2_set 22 = .ok (.aload_n 3, 1) := dk_45 (dk_at dksJ2_set_0 22 rfl rfl)
theorem dJ2_set_23 : decode cJ2_set 23 = .ok (.areturn, 1) := dk_176 (dk_at dksJ2_set_0 23 rfl rfl)
theorem q140 : (Jvm.Cond.initialized "java/util/ArrayList") ∈ lw_all := lw_g (lw_at lw_m1 5 rfl) rfl
theorem q241 : (Jvm.Cond.instantiable "java/util/ArrayList" (3 : Nat)) ∈ lw_all := lw_g (lw_at lw_m1 106 rfl) rfl
theorem q243 : (Jvm.Cond.instanceMethod ({ cls := "java/util/ArrayList", name := "<init>", desc := "()V" } : Jvm.MethodName)) ∈ lw_all := lw_g (lw_at lw_m1 108 rfl) rfl
theorem q244 : (Jvm.Cond.code ({ cls := "java/util/ArrayList", name := "<init>", desc := "()V" } : Jvm.MethodName) prog_39_method_2_code (1 : Nat) (Option.none : Option Jvm.ClassFile.FieldType)) ∈ lw_all := lw_g (lw_at lw_m1 109 rfl) rfl
theorem q245 : (Jvm.Cond.methodLink "java/util/ArrayList" (1 : Nat) ({ cls := "java/util/AbstractList", name := "<init>", desc := "()V" } : Jvm.MethodName)) ∈ lw_all := lw_g (lw_at lw_m1 110 rfl) rfl
theorem q252 : (Jvm.Cond.fieldLink "java/util/ArrayList" (39 : Nat) "java/util/ArrayList" "DEFAULTCAPACITY_EMPTY_ELEMENTDATA" "[Ljava/lang/Object;") ∈ lw_all := lw_g (lw_at lw_m1 117 rfl) rfl
theorem q253 : (Jvm.Cond.laysStatic "java/util/ArrayList" "DEFAULTCAPACITY_EMPTY_ELEMENTDATA" "[Ljava/lang/Object;") ∈ lw_tbl := lw_at lw_m1 118 rfl
theorem q254 : (Jvm.Cond.fieldLink "java/util/ArrayList" (9 : Nat) "java/util/ArrayList" "elementData" "[Ljava/lang/Object;") ∈ lw_all := lw_g (lw_at lw_m1 119 rfl) rfl
theorem q255 : (Jvm.Cond.fieldLink "java/util/ArrayList" (48 : Nat) "java/util/ArrayList" "size" "I") ∈ lw_all := lw_g (lw_at lw_m1 120 rfl) rfl
theorem q257 : (Jvm.Cond.fieldLink "java/util/ArrayList" (63 : Nat) "java/util/ArrayList" "modCount" "I") ∈ lw_all := lw_g (lw_at lw_m1 122 rfl) rfl
theorem q258 : (Jvm.Cond.sameField "java/util/ArrayList" "java/util/AbstractList" "modCount" "I") ∈ lw_all := lw_g (lw_at lw_m1 123 rfl) rfl
theorem q259 : (Jvm.Cond.lays "java/util/ArrayList" "java/util/ArrayList" "elementData" "[Ljava/lang/Object;") ∈ lw_all := lw_g (lw_at lw_m1 124 rfl) rfl
theorem q260 : (Jvm.Cond.soleField "java/util/ArrayList" "elementData") ∈ lw_all := lw_g (lw_at lw_m1 125 rfl) rfl
theorem q261 : (Jvm.Cond.lays "java/util/ArrayList" "java/util/ArrayList" "size" "I") ∈ lw_all := lw_g (lw_at lw_m1 126 rfl) rfl
theorem q262 : (Jvm.Cond.soleField "java/util/ArrayList" "size") ∈ lw_all := lw_g (lw_at lw_m1 127 rfl) rfl
theorem q263 : (Jvm.Cond.lays "java/util/ArrayList" "java/util/AbstractList" "modCount" "I") ∈ lw_all := lw_g (lw_at lw_m1 128 rfl) rfl
theorem q265 : (Jvm.Cond.superclass "java/util/ArrayList" "java/util/AbstractList") ∈ lw_all := lw_g (lw_at lw_m1 130 rfl) rfl
theorem q663 : (Jvm.Cond.instanceMethod ({ cls := "java/util/ArrayList", name := "isEmpty", desc := "()Z" } : Jvm.MethodName)) ∈ lw_all := lw_g (lw_at lw_m3 48 rfl) rfl
theorem q664 : (Jvm.Cond.selects "java/util/ArrayList" ({ cls := "java/util/ArrayList", name := "isEmpty", desc := "()Z" } : Jvm.MethodName) ({ cls := "java/util/ArrayList", name := "isEmpty", desc := "()Z" } : Jvm.MethodName)) ∈ lw_all := lw_g (lw_at lw_m3 49 rfl) rfl
theorem q665 : (Jvm.Cond.code ({ cls := "java/util/ArrayList", name := "isEmpty", desc := "()Z" } : Jvm.MethodName) prog_39_method_9_code (1 : Nat) (Option.some Jvm.ClassFile.FieldType.boolean)) ∈ lw_all := lw_g (lw_at lw_m3 50 rfl) rfl
theorem q680 : (Jvm.Cond.instanceMethod ({ cls := "java/util/ArrayList", name := "add", desc := "(Ljava/lang/Object;)Z" } : Jvm.MethodName)) ∈ lw_all := lw_g (lw_at lw_m3 65 rfl) rfl
theorem q681 : (Jvm.Cond.selects "java/util/ArrayList" ({ cls := "java/util/ArrayList", name := "add", desc := "(Ljava/lang/Object;)Z" } : Jvm.MethodName) ({ cls := "java/util/ArrayList", name := "add", desc := "(Ljava/lang/Object;)Z" } : Jvm.MethodName)) ∈ lw_all := lw_g (lw_at lw_m3 66 rfl) rfl
theorem q682 : (Jvm.Cond.code ({ cls := "java/util/ArrayList", name := "add", desc := "(Ljava/lang/Object;)Z" } : Jvm.MethodName) prog_39_method_25_code (2 : Nat) (Option.some Jvm.ClassFile.FieldType.boolean)) ∈ lw_all := lw_g (lw_at lw_m3 67 rfl) rfl
theorem q683 : (Jvm.Cond.methodLink "java/util/ArrayList" (131 : Nat) ({ cls := "java/util/ArrayList", name := "add", desc := "(Ljava/lang/Object;[Ljava/lang/Object;I)V" } : Jvm.MethodName)) ∈ lw_all := lw_g (lw_at lw_m3 68 rfl) rfl
theorem q684 : (Jvm.Cond.privateMethod ({ cls := "java/util/ArrayList", name := "add", desc := "(Ljava/lang/Object;[Ljava/lang/Object;I)V" } : Jvm.MethodName)) ∈ lw_tbl := lw_at lw_m3 69 rfl
theorem q685 : (Jvm.Cond.instanceMethod ({ cls := "java/util/ArrayList", name := "add", desc := "(Ljava/lang/Object;[Ljava/lang/Object;I)V" } : Jvm.MethodName)) ∈ lw_all := lw_g (lw_at lw_m3 70 rfl) rfl
theorem q686 : (Jvm.Cond.code ({ cls := "java/util/ArrayList", name := "add", desc := "(Ljava/lang/Object;[Ljava/lang/Object;I)V" } : Jvm.MethodName) prog_39_method_24_code (4 : Nat) (Option.none : Option Jvm.ClassFile.FieldType)) ∈ lw_all := lw_g (lw_at lw_m3 71 rfl) rfl
theorem q687 : (Jvm.Cond.methodLink "java/util/ArrayList" (129 : Nat) ({ cls := "java/util/ArrayList", name := "grow", desc := "()[Ljava/lang/Object;" } : Jvm.MethodName)) ∈ lw_all := lw_g (lw_at lw_m3 72 rfl) rfl
theorem q688 : (Jvm.Cond.privateMethod ({ cls := "java/util/ArrayList", name := "grow", desc := "()[Ljava/lang/Object;" } : Jvm.MethodName)) ∈ lw_tbl := lw_at lw_m3 73 rfl
theorem q689 : (Jvm.Cond.instanceMethod ({ cls := "java/util/ArrayList", name := "grow", desc := "()[Ljava/lang/Object;" } : Jvm.MethodName)) ∈ lw_all := lw_g (lw_at lw_m3 74 rfl) rfl
theorem q690 : (Jvm.Cond.code ({ cls := "java/util/ArrayList", name := "grow", desc := "()[Ljava/lang/Object;" } : Jvm.MethodName) prog_39_method_7_code (1 : Nat) (Option.some (Jvm.ClassFile.FieldType.array (Jvm.ClassFile.FieldType.object "java/lang/Object")))) ∈ lw_all := lw_g (lw_at lw_m3 75 rfl) rfl
theorem q691 : (Jvm.Cond.methodLink "java/util/ArrayList" (69 : Nat) ({ cls := "java/util/ArrayList", name := "grow", desc := "(I)[Ljava/lang/Object;" } : Jvm.MethodName)) ∈ lw_all := lw_g (lw_at lw_m3 76 rfl) rfl
theorem q692 : (Jvm.Cond.privateMethod ({ cls := "java/util/ArrayList", name := "grow", desc := "(I)[Ljava/lang/Object;" } : Jvm.MethodName)) ∈ lw_tbl := lw_at lw_m3 77 rfl
theorem q693 : (Jvm.Cond.instanceMethod ({ cls := "java/util/ArrayList", name := "grow", desc := "(I)[Ljava/lang/Object;" } : Jvm.MethodName)) ∈ lw_all := lw_g (lw_at lw_m3 78 rfl) rfl
theorem q694 : (Jvm.Cond.code ({ cls := "java/util/ArrayList", name := "grow", desc := "(I)[Ljava/lang/Object;" } : Jvm.MethodName) prog_39_method_6_code (4 : Nat) (Option.some (Jvm.ClassFile.FieldType.array (Jvm.ClassFile.FieldType.object "java/lang/Object")))) ∈ lw_all := lw_g (lw_at lw_m3 79 rfl) rfl
theorem q695 : (Jvm.Cond.methodLink "java/util/ArrayList" (73 : Nat) ({ cls := "jdk/internal/util/ArraysSupport", name := "newLength", desc := "(III)I" } : Jvm.MethodName)) ∈ lw_all := lw_g (lw_at lw_m3 80 rfl) rfl
theorem q705 : (Jvm.Cond.methodLink "java/util/ArrayList" (66 : Nat) ({ cls := "java/util/Arrays", name := "copyOf", desc := "([Ljava/lang/Object;I)[Ljava/lang/Object;" } : Jvm.MethodName)) ∈ lw_all := lw_g (lw_at lw_m3 90 rfl) rfl
theorem q727 : (Jvm.Cond.selects "java/util/ArrayList" ({ cls := "java/lang/Object", name := "getClass", desc := "()Ljava/lang/Class;" } : Jvm.MethodName) ({ cls := "java/lang/Object", name := "getClass", desc := "()Ljava/lang/Class;" } : Jvm.MethodName)) ∈ lw_all := lw_g (lw_at lw_m3 112 rfl) rfl
theorem q737 : (Jvm.Cond.methodLink "java/util/ArrayList" (79 : Nat) ({ cls := "java/lang/Math", name := "max", desc := "(II)I" } : Jvm.MethodName)) ∈ lw_all := lw_g (lw_at lw_m3 122 rfl) rfl
theorem q738 : (Jvm.Cond.classLink "java/util/ArrayList" (7 : Nat) "java/lang/Object") ∈ lw_all := lw_g (lw_at lw_m3 123 rfl) rfl
theorem q781 : (Jvm.Cond.instanceMethod ({ cls := "java/util/ArrayList", name := "get", desc := "(I)Ljava/lang/Object;" } : Jvm.MethodName)) ∈ lw_all := lw_g (lw_at lw_m3 166 rfl) rfl
theorem q782 : (Jvm.Cond.selects "java/util/ArrayList" ({ cls := "java/util/ArrayList", name := "get", desc := "(I)Ljava/lang/Object;" } : Jvm.MethodName) ({ cls := "java/util/ArrayList", name := "get", desc := "(I)Ljava/lang/Object;" } : Jvm.MethodName)) ∈ lw_all := lw_g (lw_at lw_m3 167 rfl) rfl
theorem q783 : (Jvm.Cond.code ({ cls := "java/util/ArrayList", name := "get", desc := "(I)Ljava/lang/Object;" } : Jvm.MethodName) prog_39_method_20_code (2 : Nat) (Option.some (Jvm.ClassFile.FieldType.object "java/lang/Object"))) ∈ lw_all := lw_g (lw_at lw_m3 168 rfl) rfl
theorem q784 : (Jvm.Cond.methodLink "java/util/ArrayList" (118 : Nat) ({ cls := "java/util/Objects", name := "checkIndex", desc := "(II)I" } : Jvm.MethodName)) ∈ lw_all := lw_g (lw_at lw_m3 169 rfl) rfl
theorem q788 : (Jvm.Cond.methodLink "java/util/ArrayList" (123 : Nat) ({ cls := "java/util/ArrayList", name := "elementData", desc := "(I)Ljava/lang/Object;" } : Jvm.MethodName)) ∈ lw_all := lw_g (lw_at lw_m3 173 rfl) rfl
theorem q789 : (Jvm.Cond.instanceMethod ({ cls := "java/util/ArrayList", name := "elementData", desc := "(I)Ljava/lang/Object;" } : Jvm.MethodName)) ∈ lw_all := lw_g (lw_at lw_m3 174 rfl) rfl
theorem q790 : (Jvm.Cond.selects "java/util/ArrayList" ({ cls := "java/util/ArrayList", name := "elementData", desc := "(I)Ljava/lang/Object;" } : Jvm.MethodName) ({ cls := "java/util/ArrayList", name := "elementData", desc := "(I)Ljava/lang/Object;" } : Jvm.MethodName)) ∈ lw_all := lw_g (lw_at lw_m3 175 rfl) rfl
theorem q791 : (Jvm.Cond.code ({ cls := "java/util/ArrayList", name := "elementData", desc := "(I)Ljava/lang/Object;" } : Jvm.MethodName) prog_39_method_18_code (2 : Nat) (Option.some (Jvm.ClassFile.FieldType.object "java/lang/Object"))) ∈ lw_all := lw_g (lw_at lw_m3 176 rfl) rfl
theorem q1287 : (Jvm.Cond.instanceMethod ({ cls := "java/util/ArrayList", name := "size", desc := "()I" } : Jvm.MethodName)) ∈ lw_all := lw_g (lw_at lw_m5 192 rfl) rfl
theorem q1288 : (Jvm.Cond.selects "java/util/ArrayList" ({ cls := "java/util/ArrayList", name := "size", desc := "()I" } : Jvm.MethodName) ({ cls := "java/util/ArrayList", name := "size", desc := "()I" } : Jvm.MethodName)) ∈ lw_all := lw_g (lw_at lw_m5 193 rfl) rfl
theorem q1289 : (Jvm.Cond.code ({ cls := "java/util/ArrayList", name := "size", desc := "()I" } : Jvm.MethodName) prog_39_method_8_code (1 : Nat) (Option.some Jvm.ClassFile.FieldType.int)) ∈ lw_all := lw_g (lw_at lw_m5 194 rfl) rfl
theorem q1298 : (Jvm.Cond.instanceMethod ({ cls := "java/util/ArrayList", name := "set", desc := "(ILjava/lang/Object;)Ljava/lang/Object;" } : Jvm.MethodName)) ∈ lw_all := lw_g (lw_at lw_m5 203 rfl) rfl
theorem q1299 : (Jvm.Cond.selects "java/util/ArrayList" ({ cls := "java/util/ArrayList", name := "set", desc := "(ILjava/lang/Object;)Ljava/lang/Object;" } : Jvm.MethodName) ({ cls := "java/util/ArrayList", name := "set", desc := "(ILjava/lang/Object;)Ljava/lang/Object;" } : Jvm.MethodName)) ∈ lw_all := lw_g (lw_at lw_m5 204 rfl) rfl
theorem q1300 : (Jvm.Cond.code ({ cls := "java/util/ArrayList", name := "set", desc := "(ILjava/lang/Object;)Ljava/lang/Object;" } : Jvm.MethodName) prog_39_method_23_code (4 : Nat) (Option.some (Jvm.ClassFile.FieldType.object "java/lang/Object"))) ∈ lw_all := lw_g (lw_at lw_m5 205 rfl) rfl
theorem q2092 : (Jvm.Cond.castable "java/util/ArrayList" "java/lang/Object") ∈ lw_tbl := lw_at lw_m9 37 rfl
theorem in_J2 : ∀ w ∈ wsJ20, w ∈ lw_all := lw_in wsJ20 [263, 259, 261] (by decide +kernel) (by decide +kernel)

/-! java/lang/Object -/
set_option maxRecDepth 100000
def RJ20 : String := "java/lang/Object"
abbrev cJ20_init : ByteArray := object_method_1_code
def yJ20_init : MethodName := ⟨RJ20, "<init>", "()V"⟩
theorem dJ20_init_0 : decode cJ20_init 0 = .ok (.return_, 1) := by decide +kernel
theorem q177 : (Jvm.Cond.instanceMethod ({ cls := "java/lang/Object", name := "<init>", desc := "()V" } : Jvm.MethodName)) ∈ lw_all := lw_g (lw_at lw_m1 42 rfl) rfl
theorem q178 : (Jvm.Cond.code ({ cls := "java/lang/Object", name := "<init>", desc := "()V" } : Jvm.MethodName) object_method_1_code (1 : Nat) (Option.none : Option Jvm.ClassFile.FieldType)) ∈ lw_all := lw_g (lw_at lw_m1 43 rfl) rfl
theorem q709 : (Jvm.Cond.instanceMethod ({ cls := "java/lang/Object", name := "getClass", desc := "()Ljava/lang/Class;" } : Jvm.MethodName)) ∈ lw_all := lw_g (lw_at lw_m3 94 rfl) rfl
theorem q710 : (Jvm.Cond.sameMethod "java/lang/Object" "java/lang/Object" "getClass" "()Ljava/lang/Class;") ∈ lw_all := lw_g (lw_at lw_m3 95 rfl) rfl
theorem q728 : (Jvm.Cond.native ({ cls := "java/lang/Object", name := "getClass", desc := "()Ljava/lang/Class;" } : Jvm.MethodName)) ∈ lw_all := lw_g (lw_at lw_m3 113 rfl) rfl
theorem q2082 : (Jvm.Cond.initialized "java/lang/Object") ∈ lw_all := lw_g (lw_at lw_m9 27 rfl) rfl
theorem q2110 : (Jvm.Cond.declares ({ cls := "java/lang/Object", name := "getClass", desc := "()Ljava/lang/Class;" } : Jvm.MethodName)) ∈ lw_tbl := lw_at lw_m9 55 rfl

/-! java/lang/Math -/
set_option maxRecDepth 100000
def RJ3 : String := "java/lang/Math"
abbrev cJ3_min : ByteArray := prog_26_method_69_code
def yJ3_min : MethodName := ⟨RJ3, "min", "(II)I"⟩
def dkwJ3_min_0 : List UInt8 := [26, 27, 163, 0, 7, 26, 167, 0, 4, 27, 172]
abbrev dktJ3_min_0 : List UInt8 := dkwJ3_min_0 ++ []
theorem dksJ3_min_0 : cJ3_min.data.toList.drop 0 = dktJ3_min_0 := by decide +kernel
theorem dJ3_min_0 : decode cJ3_min 0 = .ok (.iload_n 0, 1) := dk_26 (dk_at dksJ3_min_0 0 rfl rfl)
theorem dJ3_min_1 : decode cJ3_min 1 = .ok (.iload_n 1, 1) := dk_27 (dk_at dksJ3_min_0 1 rfl rfl)
theorem dJ3_min_2 : decode cJ3_min 2 = .ok (.if_icmp .gt 7, 3) := dk_163 0 7 (dk_at dksJ3_min_0 2 rfl rfl)
theorem dJ3_min_5 : decode cJ3_min 5 = .ok (.iload_n 0, 1) := dk_26 (dk_at dksJ3_min_0 5 rfl rfl)
theorem dJ3_min_6 : decode cJ3_min 6 = .ok (.goto 4, 3) := dk_167 0 4 (dk_at dksJ3_min_0 6 rfl rfl)
theorem dJ3_min_9 : decode cJ3_min 9 = .ok (.iload_n 1, 1) := dk_27 (dk_at dksJ3_min_0 9 rfl rfl)
theorem dJ3_min_10 : decode cJ3_min 10 = .ok (.ireturn, 1) := dk_172 (dk_at dksJ3_min_0 10 rfl rfl)
abbrev cJ3_max : ByteArray := prog_26_method_65_code
def yJ3_max : MethodName := ⟨RJ3, "max", "(II)I"⟩
def dkwJ3_max_0 : List UInt8 := [26, 27, 161, 0, 7, 26, 167, 0, 4, 27, 172]
abbrev dktJ3_max_0 : List UInt8 := dkwJ3_max_0 ++ []
theorem dksJ3_max_0 : cJ3_max.data.toList.drop 0 = dktJ3_max_0 := by decide +kernel
theorem dJ3_max_0 : decode cJ3_max 0 = .ok (.iload_n 0, 1) := dk_26 (dk_at dksJ3_max_0 0 rfl rfl)
theorem dJ3_max_1 : decode cJ3_max 1 = .ok (.iload_n 1, 1) := dk_27 (dk_at dksJ3_max_0 1 rfl rfl)
theorem dJ3_max_2 : decode cJ3_max 2 = .ok (.if_icmp .lt 7, 3) := dk_161 0 7 (dk_at dksJ3_max_0 2 rfl rfl)
theorem dJ3_max_5 : decode cJ3_max 5 = .ok (.iload_n 0, 1) := dk_26 (dk_at dksJ3_max_0 5 rfl rfl)
theorem dJ3_max_6 : decode cJ3_max 6 = .ok (.goto 4, 3) := dk_167 0 4 (dk_at dksJ3_max_0 6 rfl rfl)
theorem dJ3_max_9 : decode cJ3_max 9 = .ok (.iload_n 1, 1) := dk_27 (dk_at dksJ3_max_0 9 rfl rfl)
theorem dJ3_max_10 : decode cJ3_max 10 = .ok (.ireturn, 1) := dk_172 (dk_at dksJ3_max_0 10 rfl rfl)
theorem q146 : (Jvm.Cond.initialized "java/lang/Math") ∈ lw_all := lw_g (lw_at lw_m1 11 rfl) rfl
theorem q410 : (Jvm.Cond.static ({ cls := "java/lang/Math", name := "min", desc := "(II)I" } : Jvm.MethodName)) ∈ lw_all := lw_g (lw_at lw_m2 35 rfl) rfl
theorem q411 : (Jvm.Cond.code ({ cls := "java/lang/Math", name := "min", desc := "(II)I" } : Jvm.MethodName) prog_26_method_69_code (2 : Nat) (Option.some Jvm.ClassFile.FieldType.int)) ∈ lw_all := lw_g (lw_at lw_m2 36 rfl) rfl
theorem q699 : (Jvm.Cond.static ({ cls := "java/lang/Math", name := "max", desc := "(II)I" } : Jvm.MethodName)) ∈ lw_all := lw_g (lw_at lw_m3 84 rfl) rfl
theorem q700 : (Jvm.Cond.code ({ cls := "java/lang/Math", name := "max", desc := "(II)I" } : Jvm.MethodName) prog_26_method_65_code (2 : Nat) (Option.some Jvm.ClassFile.FieldType.int)) ∈ lw_all := lw_g (lw_at lw_m3 85 rfl) rfl

/-! java/lang/String -/
set_option maxRecDepth 100000
def RJ4 : String := "java/lang/String"
def TJ4 : u_T := fun k => match k with
  | 0 => ("java/lang/String", "value", "[B", true)
  | _ => ("java/lang/String", "coder", "B", true)
def tyJ4 : Nat → FieldType := fun k => match k with
  | 0 => .array .byte
  | _ => .byte
abbrev wsJ40 : List Cond := u_ws RJ4 TJ4 2
theorem nmJ4 : ∀ a, a < 2 → ∀ b, b < 2 → a ≠ b → (TJ4 a).2.1 ≠ (TJ4 b).2.1 := by decide +kernel
theorem tyJ4_ok : ∀ k, k < 2 → parseFieldDescriptor (TJ4 k).2.2.1 = some (tyJ4 k) := by decide +kernel
abbrev cJ4_length : ByteArray := prog_30_method_54_code
def yJ4_length : MethodName := ⟨RJ4, "length", "()I"⟩
def dkwJ4_length_0 : List UInt8 := [42, 180, 0, 9, 190, 42, 182, 1, 79, 122, 172]
abbrev dktJ4_length_0 : List UInt8 := dkwJ4_length_0 ++ []
theorem dksJ4_length_0 : cJ4_length.data.toList.drop 0 = dktJ4_length_0 := by decide +kernel
theorem dJ4_length_0 : decode cJ4_length 0 = .ok (.aload_n 0, 1) := dk_42 (dk_at dksJ4_length_0 0 rfl rfl)
theorem dJ4_length_1 : decode cJ4_length 1 = .ok (.getfield 9, 3) := dk_180 0 9 (dk_at dksJ4_length_0 1 rfl rfl)
theorem dJ4_length_4 : decode cJ4_length 4 = .ok (.arraylength, 1) := dk_190 (dk_at dksJ4_length_0 4 rfl rfl)
theorem dJ4_length_5 : decode cJ4_length 5 = .ok (.aload_n 0, 1) := dk_42 (dk_at dksJ4_length_0 5 rfl rfl)
theorem dJ4_length_6 : decode cJ4_length 6 = .ok (.invokevirtual 335, 3) := dk_182 1 79 (dk_at dksJ4_length_0 6 rfl rfl)
theorem dJ4_length_9 : decode cJ4_length 9 = .ok (.ishr, 1) := dk_122 (dk_at dksJ4_length_0 9 rfl rfl)
theorem dJ4_length_10 : decode cJ4_length 10 = .ok (.ireturn, 1) := dk_172 (dk_at dksJ4_length_0 10 rfl rfl)
abbrev cJ4_coder : ByteArray := prog_30_method_152_code
def yJ4_coder : MethodName := ⟨RJ4, "coder", "()B"⟩
def dkwJ4_coder_0 : List UInt8 := [178, 0, 38, 153, 0, 10, 42, 180, 0, 15, 167, 0, 4, 4, 172]
abbrev dktJ4_coder_0 : List UInt8 := dkwJ4_coder_0 ++ []
theorem dksJ4_coder_0 : cJ4_coder.data.toList.drop 0 = dktJ4_coder_0 := by decide +kernel
theorem dJ4_coder_0 : decode cJ4_coder 0 = .ok (.getstatic 38, 3) := dk_178 0 38 (dk_at dksJ4_coder_0 0 rfl rfl)
theorem dJ4_coder_3 : decode cJ4_coder 3 = .ok (.ifCond .eq 10, 3) := dk_153 0 10 (dk_at dksJ4_coder_0 3 rfl rfl)
theorem dJ4_coder_6 : decode cJ4_coder 6 = .ok (.aload_n 0, 1) := dk_42 (dk_at dksJ4_coder_0 6 rfl rfl)
theorem dJ4_coder_7 : decode cJ4_coder 7 = .ok (.getfield 15, 3) := dk_180 0 15 (dk_at dksJ4_coder_0 7 rfl rfl)
theorem dJ4_coder_10 : decode cJ4_coder 10 = .ok (.goto 4, 3) := dk_167 0 4 (dk_at dksJ4_coder_0 10 rfl rfl)
theorem dJ4_coder_13 : decode cJ4_coder 13 = .ok (.iconst 1, 1) := dk_4 (dk_at dksJ4_coder_0 13 rfl rfl)
theorem dJ4_coder_14 : decode cJ4_coder 14 = .ok (.ireturn, 1) := dk_172 (dk_at dksJ4_coder_0 14 rfl rfl)
abbrev cJ4_charAt : ByteArray := prog_30_method_56_code
def yJ4_charAt : MethodName := ⟨RJ4, "charAt", "(I)C"⟩
def dkwJ4_charAt_1 : List UInt8 := [172]
abbrev dktJ4_charAt_1 : List UInt8 := dkwJ4_charAt_1 ++ []
def dkwJ4_charAt_0 : List UInt8 := [42, 182, 1, 236, 153, 0, 12, 42, 180, 0, 9, 27, 184, 1, 239, 172, 42, 180, 0, 9, 27, 184, 1, 242]
abbrev dktJ4_charAt_0 : List UInt8 := dkwJ4_charAt_0 ++ dktJ4_charAt_1
theorem dksJ4_charAt_0 : cJ4_charAt.data.toList.drop 0 = dktJ4_charAt_0 := by decide +kernel
theorem dksJ4_charAt_1 : cJ4_charAt.data.toList.drop 24 = dktJ4_charAt_1 := dk_seg dksJ4_charAt_0 24 rfl rfl
theorem dJ4_charAt_0 : decode cJ4_charAt 0 = .ok (.aload_n 0, 1) := dk_42 (dk_at dksJ4_charAt_0 0 rfl rfl)
theorem dJ4_charAt_1 : decode cJ4_charAt 1 = .ok (.invokevirtual 492, 3) := dk_182 1 236 (dk_at dksJ4_charAt_0 1 rfl rfl)
theorem dJ4_charAt_4 : decode cJ4_charAt 4 = .ok (.ifCond .eq 12, 3) := dk_153 0 12 (dk_at dksJ4_charAt_0 4 rfl rfl)
theorem dJ4_charAt_7 : decode cJ4_charAt 7 = .ok (.aload_n 0, 1) := dk_42 (dk_at dksJ4_charAt_0 7 rfl rfl)
theorem dJ4_charAt_8 : decode cJ4_charAt 8 = .ok (.getfield 9, 3) := dk_180 0 9 (dk_at dksJ4_charAt_0 8 rfl rfl)
theorem dJ4_charAt_11 : decode cJ4_charAt 11 = .ok (.iload_n 1, 1) := dk_27 (dk_at dksJ4_charAt_0 11 rfl rfl)
theorem dJ4_charAt_12 : decode cJ4_charAt 12 = .ok (.invokestatic 495, 3) := dk_184 1 239 (dk_at dksJ4_charAt_0 12 rfl rfl)
theorem dJ4_charAt_15 : decode cJ4_charAt 15 = .ok (.ireturn, 1) := dk_172 (dk_at dksJ4_charAt_0 15 rfl rfl)
theorem dJ4_charAt_16 : decode cJ4_charAt 16 = .ok (.aload_n 0, 1) := dk_42 (dk_at dksJ4_charAt_0 16 rfl rfl)
theorem dJ4_charAt_17 : decode cJ4_charAt 17 = .ok (.getfield 9, 3) := dk_180 0 9 (dk_at dksJ4_charAt_0 17 rfl rfl)
theorem dJ4_charAt_20 : decode cJ4_charAt 20 = .ok (.iload_n 1, 1) := dk_27 (dk_at dksJ4_charAt_0 20 rfl rfl)
theorem dJ4_charAt_21 : decode cJ4_charAt 21 = .ok (.invokestatic 498, 3) := dk_184 1 242 (dk_at dksJ4_charAt_0 21 rfl rfl)
theorem dJ4_charAt_24 : decode cJ4_charAt 24 = .ok (.ireturn, 1) := dk_172 (dk_at dksJ4_charAt_1 0 rfl rfl)
abbrev cJ4_isLatin1 : ByteArray := prog_30_method_154_code
def yJ4_isLatin1 : MethodName := ⟨RJ4, "isLatin1", "()Z"⟩
def dkwJ4_isLatin1_0 : List UInt8 := [178, 0, 38, 153, 0, 14, 42, 180, 0, 15, 154, 0, 7, 4, 167, 0, 4, 3, 172]
abbrev dktJ4_isLatin1_0 : List UInt8 := dkwJ4_isLatin1_0 ++ []
theorem dksJ4_isLatin1_0 : cJ4_isLatin1.data.toList.drop 0 = dktJ4_isLatin1_0 := by decide +kernel
theorem dJ4_isLatin1_0 : decode cJ4_isLatin1 0 = .ok (.getstatic 38, 3) := dk_178 0 38 (dk_at dksJ4_isLatin1_0 0 rfl rfl)
theorem dJ4_isLatin1_3 : decode cJ4_isLatin1 3 = .ok (.ifCond .eq 14, 3) := dk_153 0 14 (dk_at dksJ4_isLatin1_0 3 rfl rfl)
theorem dJ4_isLatin1_6 : decode cJ4_isLatin1 6 = .ok (.aload_n 0, 1) := dk_42 (dk_at dksJ4_isLatin1_0 6 rfl rfl)
theorem dJ4_isLatin1_7 : decode cJ4_isLatin1 7 = .ok (.getfield 15, 3) := dk_180 0 15 (dk_at dksJ4_isLatin1_0 7 rfl rfl)
theorem dJ4_isLatin1_10 : decode cJ4_isLatin1 10 = .ok (.ifCond .ne 7, 3) := dk_154 0 7 (dk_at dksJ4_isLatin1_0 10 rfl rfl)
theorem dJ4_isLatin1_13 : decode cJ4_isLatin1 13 = .ok (.iconst 1, 1) := dk_4 (dk_at dksJ4_isLatin1_0 13 rfl rfl)
theorem dJ4_isLatin1_14 : decode cJ4_isLatin1 14 = .ok (.goto 4, 3) := dk_167 0 4 (dk_at dksJ4_isLatin1_0 14 rfl rfl)
theorem dJ4_isLatin1_17 : decode cJ4_isLatin1 17 = .ok (.iconst 0, 1) := dk_3 (dk_at dksJ4_isLatin1_0 17 rfl rfl)
theorem dJ4_isLatin1_18 : decode cJ4_isLatin1 18 = .ok (.ireturn, 1) := dk_172 (dk_at dksJ4_isLatin1_0 18 rfl rfl)
abbrev cJ4_checkIndex : ByteArray := prog_30_method_155_code
def yJ4_checkIndex : MethodName := ⟨RJ4, "checkIndex", "(II)V"⟩
def dkwJ4_checkIndex_0 : List UInt8 := [26, 27, 178, 4, 29, 184, 4, 35, 87, 177]
abbrev dktJ4_checkIndex_0 : List UInt8 := dkwJ4_checkIndex_0 ++ []
theorem dksJ4_checkIndex_0 : cJ4_checkIndex.data.toList.drop 0 = dktJ4_checkIndex_0 := by decide +kernel
theorem dJ4_checkIndex_0 : decode cJ4_checkIndex 0 = .ok (.iload_n 0, 1) := dk_26 (dk_at dksJ4_checkIndex_0 0 rfl rfl)
theorem dJ4_checkIndex_1 : decode cJ4_checkIndex 1 = .ok (.iload_n 1, 1) := dk_27 (dk_at dksJ4_checkIndex_0 1 rfl rfl)
theorem dJ4_checkIndex_2 : decode cJ4_checkIndex 2 = .ok (.getstatic 1053, 3) := dk_178 4 29 (dk_at dksJ4_checkIndex_0 2 rfl rfl)
theorem dJ4_checkIndex_5 : decode cJ4_checkIndex 5 = .ok (.invokestatic 1059, 3) := dk_184 4 35 (dk_at dksJ4_checkIndex_0 5 rfl rfl)
theorem dJ4_checkIndex_8 : decode cJ4_checkIndex 8 = .ok (.pop, 1) := dk_87 (dk_at dksJ4_checkIndex_0 8 rfl rfl)
theorem dJ4_checkIndex_9 : decode cJ4_checkIndex 9 = .ok (.return_, 1) := dk_177 (dk_at dksJ4_checkIndex_0 9 rfl rfl)
theorem q147 : (Jvm.Cond.initialized "java/lang/String") ∈ lw_all := lw_g (lw_at lw_m1 12 rfl) rfl
theorem q458 : (Jvm.Cond.instanceMethod ({ cls := "java/lang/String", name := "length", desc := "()I" } : Jvm.MethodName)) ∈ lw_all := lw_g (lw_at lw_m2 83 rfl) rfl
theorem q459 : (Jvm.Cond.selects "java/lang/String" ({ cls := "java/lang/String", name := "length", desc := "()I" } : Jvm.MethodName) ({ cls := "java/lang/String", name := "length", desc := "()I" } : Jvm.MethodName)) ∈ lw_all := lw_g (lw_at lw_m2 84 rfl) rfl
theorem q460 : (Jvm.Cond.code ({ cls := "java/lang/String", name := "length", desc := "()I" } : Jvm.MethodName) prog_30_method_54_code (1 : Nat) (Option.some Jvm.ClassFile.FieldType.int)) ∈ lw_all := lw_g (lw_at lw_m2 85 rfl) rfl
theorem q461 : (Jvm.Cond.methodLink "java/lang/String" (335 : Nat) ({ cls := "java/lang/String", name := "coder", desc := "()B" } : Jvm.MethodName)) ∈ lw_all := lw_g (lw_at lw_m2 86 rfl) rfl
theorem q462 : (Jvm.Cond.instanceMethod ({ cls := "java/lang/String", name := "coder", desc := "()B" } : Jvm.MethodName)) ∈ lw_all := lw_g (lw_at lw_m2 87 rfl) rfl
theorem q463 : (Jvm.Cond.selects "java/lang/String" ({ cls := "java/lang/String", name := "coder", desc := "()B" } : Jvm.MethodName) ({ cls := "java/lang/String", name := "coder", desc := "()B" } : Jvm.MethodName)) ∈ lw_all := lw_g (lw_at lw_m2 88 rfl) rfl
theorem q464 : (Jvm.Cond.code ({ cls := "java/lang/String", name := "coder", desc := "()B" } : Jvm.MethodName) prog_30_method_152_code (1 : Nat) (Option.some Jvm.ClassFile.FieldType.byte)) ∈ lw_all := lw_g (lw_at lw_m2 89 rfl) rfl
theorem q465 : (Jvm.Cond.fieldLink "java/lang/String" (38 : Nat) "java/lang/String" "COMPACT_STRINGS" "Z") ∈ lw_all := lw_g (lw_at lw_m2 90 rfl) rfl
theorem q466 : (Jvm.Cond.laysStatic "java/lang/String" "COMPACT_STRINGS" "Z") ∈ lw_tbl := lw_at lw_m2 91 rfl
theorem q468 : (Jvm.Cond.instanceMethod ({ cls := "java/lang/String", name := "charAt", desc := "(I)C" } : Jvm.MethodName)) ∈ lw_all := lw_g (lw_at lw_m2 93 rfl) rfl
theorem q469 : (Jvm.Cond.selects "java/lang/String" ({ cls := "java/lang/String", name := "charAt", desc := "(I)C" } : Jvm.MethodName) ({ cls := "java/lang/String", name := "charAt", desc := "(I)C" } : Jvm.MethodName)) ∈ lw_all := lw_g (lw_at lw_m2 94 rfl) rfl
theorem q470 : (Jvm.Cond.code ({ cls := "java/lang/String", name := "charAt", desc := "(I)C" } : Jvm.MethodName) prog_30_method_56_code (2 : Nat) (Option.some Jvm.ClassFile.FieldType.char)) ∈ lw_all := lw_g (lw_at lw_m2 95 rfl) rfl
theorem q471 : (Jvm.Cond.methodLink "java/lang/String" (492 : Nat) ({ cls := "java/lang/String", name := "isLatin1", desc := "()Z" } : Jvm.MethodName)) ∈ lw_all := lw_g (lw_at lw_m2 96 rfl) rfl
theorem q472 : (Jvm.Cond.instanceMethod ({ cls := "java/lang/String", name := "isLatin1", desc := "()Z" } : Jvm.MethodName)) ∈ lw_all := lw_g (lw_at lw_m2 97 rfl) rfl
theorem q473 : (Jvm.Cond.selects "java/lang/String" ({ cls := "java/lang/String", name := "isLatin1", desc := "()Z" } : Jvm.MethodName) ({ cls := "java/lang/String", name := "isLatin1", desc := "()Z" } : Jvm.MethodName)) ∈ lw_all := lw_g (lw_at lw_m2 98 rfl) rfl
theorem q474 : (Jvm.Cond.code ({ cls := "java/lang/String", name := "isLatin1", desc := "()Z" } : Jvm.MethodName) prog_30_method_154_code (1 : Nat) (Option.some Jvm.ClassFile.FieldType.boolean)) ∈ lw_all := lw_g (lw_at lw_m2 99 rfl) rfl
theorem q475 : (Jvm.Cond.methodLink "java/lang/String" (495 : Nat) ({ cls := "java/lang/StringLatin1", name := "charAt", desc := "([BI)C" } : Jvm.MethodName)) ∈ lw_all := lw_g (lw_at lw_m2 100 rfl) rfl
theorem q479 : (Jvm.Cond.static ({ cls := "java/lang/String", name := "checkIndex", desc := "(II)V" } : Jvm.MethodName)) ∈ lw_all := lw_g (lw_at lw_m2 104 rfl) rfl
theorem q480 : (Jvm.Cond.code ({ cls := "java/lang/String", name := "checkIndex", desc := "(II)V" } : Jvm.MethodName) prog_30_method_155_code (2 : Nat) (Option.none : Option Jvm.ClassFile.FieldType)) ∈ lw_all := lw_g (lw_at lw_m2 105 rfl) rfl
theorem q481 : (Jvm.Cond.fieldLink "java/lang/String" (1053 : Nat) "jdk/internal/util/Preconditions" "SIOOBE_FORMATTER" "Ljava/util/function/BiFunction;") ∈ lw_all := lw_g (lw_at lw_m2 106 rfl) rfl
theorem q483 : (Jvm.Cond.methodLink "java/lang/String" (1059 : Nat) ({ cls := "jdk/internal/util/Preconditions", name := "checkIndex", desc := "(IILjava/util/function/BiFunction;)I" } : Jvm.MethodName)) ∈ lw_all := lw_g (lw_at lw_m2 108 rfl) rfl
theorem q486 : (Jvm.Cond.methodLink "java/lang/String" (498 : Nat) ({ cls := "java/lang/StringUTF16", name := "charAt", desc := "([BI)C" } : Jvm.MethodName)) ∈ lw_all := lw_g (lw_at lw_m2 111 rfl) rfl
theorem q1331 : (Jvm.Cond.instantiable "java/lang/String" (4 : Nat)) ∈ lw_all := lw_g (lw_at lw_m5 236 rfl) rfl
theorem q1332 : (Jvm.Cond.laysFinal "java/lang/String" "java/lang/String" "value" "[B") ∈ lw_all := lw_g (lw_at lw_m5 237 rfl) rfl
theorem q1333 : (Jvm.Cond.soleField "java/lang/String" "value") ∈ lw_all := lw_g (lw_at lw_m5 238 rfl) rfl
theorem q1334 : (Jvm.Cond.laysFinal "java/lang/String" "java/lang/String" "coder" "B") ∈ lw_all := lw_g (lw_at lw_m5 239 rfl) rfl
theorem q1335 : (Jvm.Cond.soleField "java/lang/String" "coder") ∈ lw_all := lw_g (lw_at lw_m6 0 rfl) rfl
theorem q2107 : (Jvm.Cond.castable "java/lang/String" "java/lang/Object") ∈ lw_tbl := lw_at lw_m9 52 rfl
theorem q2118 : (Jvm.Cond.fieldLink "java/lang/String" (9 : Nat) "java/lang/String" "value" "[B") ∈ lw_all := lw_g (lw_at lw_m9 63 rfl) rfl
theorem q2119 : (Jvm.Cond.fieldLink "java/lang/String" (15 : Nat) "java/lang/String" "coder" "B") ∈ lw_all := lw_g (lw_at lw_m9 64 rfl) rfl
theorem in_J4 : ∀ w ∈ wsJ40, w ∈ lw_all := lw_in wsJ40 [1332, 1334] (by decide +kernel) (by decide +kernel)

/-! java/lang/StringLatin1 -/
set_option maxRecDepth 100000
def RJ5 : String := "java/lang/StringLatin1"
abbrev cJ5_charAt : ByteArray := prog_31_method_2_code
def yJ5_charAt : MethodName := ⟨RJ5, "charAt", "([BI)C"⟩
def dkwJ5_charAt_0 : List UInt8 := [27, 42, 190, 184, 0, 9, 42, 27, 51, 17, 0, 255, 126, 146, 172]
abbrev dktJ5_charAt_0 : List UInt8 := dkwJ5_charAt_0 ++ []
theorem dksJ5_charAt_0 : cJ5_charAt.data.toList.drop 0 = dktJ5_charAt_0 := by decide +kernel
theorem dJ5_charAt_0 : decode cJ5_charAt 0 = .ok (.iload_n 1, 1) := dk_27 (dk_at dksJ5_charAt_0 0 rfl rfl)
theorem dJ5_charAt_1 : decode cJ5_charAt 1 = .ok (.aload_n 0, 1) := dk_42 (dk_at dksJ5_charAt_0 1 rfl rfl)
theorem dJ5_charAt_2 : decode cJ5_charAt 2 = .ok (.arraylength, 1) := dk_190 (dk_at dksJ5_charAt_0 2 rfl rfl)
theorem dJ5_charAt_3 : decode cJ5_charAt 3 = .ok (.invokestatic 9, 3) := dk_184 0 9 (dk_at dksJ5_charAt_0 3 rfl rfl)
theorem dJ5_charAt_6 : decode cJ5_charAt 6 = .ok (.aload_n 0, 1) := dk_42 (dk_at dksJ5_charAt_0 6 rfl rfl)
theorem dJ5_charAt_7 : decode cJ5_charAt 7 = .ok (.iload_n 1, 1) := dk_27 (dk_at dksJ5_charAt_0 7 rfl rfl)
theorem dJ5_charAt_8 : decode cJ5_charAt 8 = .ok (.baload, 1) := dk_51 (dk_at dksJ5_charAt_0 8 rfl rfl)
theorem dJ5_charAt_9 : decode cJ5_charAt 9 = .ok (.sipush 255, 3) := dk_17 0 255 (dk_at dksJ5_charAt_0 9 rfl rfl)
theorem dJ5_charAt_12 : decode cJ5_charAt 12 = .ok (.iand, 1) := dk_126 (dk_at dksJ5_charAt_0 12 rfl rfl)
theorem dJ5_charAt_13 : decode cJ5_charAt 13 = .ok (.i2c, 1) := dk_146 (dk_at dksJ5_charAt_0 13 rfl rfl)
theorem dJ5_charAt_14 : decode cJ5_charAt 14 = .ok (.ireturn, 1) := dk_172 (dk_at dksJ5_charAt_0 14 rfl rfl)
theorem q148 : (Jvm.Cond.initialized "java/lang/StringLatin1") ∈ lw_all := lw_g (lw_at lw_m1 13 rfl) rfl
theorem q476 : (Jvm.Cond.static ({ cls := "java/lang/StringLatin1", name := "charAt", desc := "([BI)C" } : Jvm.MethodName)) ∈ lw_all := lw_g (lw_at lw_m2 101 rfl) rfl
theorem q477 : (Jvm.Cond.code ({ cls := "java/lang/StringLatin1", name := "charAt", desc := "([BI)C" } : Jvm.MethodName) prog_31_method_2_code (2 : Nat) (Option.some Jvm.ClassFile.FieldType.char)) ∈ lw_all := lw_g (lw_at lw_m2 102 rfl) rfl
theorem q478 : (Jvm.Cond.methodLink "java/lang/StringLatin1" (9 : Nat) ({ cls := "java/lang/String", name := "checkIndex", desc := "(II)V" } : Jvm.MethodName)) ∈ lw_all := lw_g (lw_at lw_m2 103 rfl) rfl

/-! jdk/internal/util/Preconditions -/
set_option maxRecDepth 100000
def RJ6 : String := "jdk/internal/util/Preconditions"
abbrev cJ6_checkIndex : ByteArray := prog_47_method_11_code
def yJ6_checkIndex : MethodName := ⟨RJ6, "checkIndex", "(IILjava/util/function/BiFunction;)I"⟩
def dkwJ6_checkIndex_0 : List UInt8 := [26, 155, 0, 8, 26, 27, 161, 0, 10, 44, 26, 27, 184, 0, 95, 191, 26, 172]
abbrev dktJ6_checkIndex_0 : List UInt8 := dkwJ6_checkIndex_0 ++ []
theorem dksJ6_checkIndex_0 : cJ6_checkIndex.data.toList.drop 0 = dktJ6_checkIndex_0 := by decide +kernel
theorem dJ6_checkIndex_0 : decode cJ6_checkIndex 0 = .ok (.iload_n 0, 1) := dk_26 (dk_at dksJ6_checkIndex_0 0 rfl rfl)
theorem dJ6_checkIndex_1 : decode cJ6_checkIndex 1 = .ok (.ifCond .lt 8, 3) := dk_155 0 8 (dk_at dksJ6_checkIndex_0 1 rfl rfl)
theorem dJ6_checkIndex_4 : decode cJ6_checkIndex 4 = .ok (.iload_n 0, 1) := dk_26 (dk_at dksJ6_checkIndex_0 4 rfl rfl)
theorem dJ6_checkIndex_5 : decode cJ6_checkIndex 5 = .ok (.iload_n 1, 1) := dk_27 (dk_at dksJ6_checkIndex_0 5 rfl rfl)
theorem dJ6_checkIndex_6 : decode cJ6_checkIndex 6 = .ok (.if_icmp .lt 10, 3) := dk_161 0 10 (dk_at dksJ6_checkIndex_0 6 rfl rfl)
theorem dJ6_checkIndex_9 : decode cJ6_checkIndex 9 = .ok (.aload_n 2, 1) := dk_44 (dk_at dksJ6_checkIndex_0 9 rfl rfl)
theorem dJ6_checkIndex_10 : decode cJ6_checkIndex 10 = .ok (.iload_n 0, 1) := dk_26 (dk_at dksJ6_checkIndex_0 10 rfl rfl)
theorem dJ6_checkIndex_11 : decode cJ6_checkIndex 11 = .ok (.iload_n 1, 1) := dk_27 (dk_at dksJ6_checkIndex_0 11 rfl rfl)
theorem dJ6_checkIndex_12 : decode cJ6_checkIndex 12 = .ok (.invokestatic 95, 3) := dk_184 0 95 (dk_at dksJ6_checkIndex_0 12 rfl rfl)
theorem dJ6_checkIndex_15 : decode cJ6_checkIndex 15 = .ok (.athrow, 1) := dk_191 (dk_at dksJ6_checkIndex_0 15 rfl rfl)
theorem dJ6_checkIndex_16 : decode cJ6_checkIndex 16 = .ok (.iload_n 0, 1) := dk_26 (dk_at dksJ6_checkIndex_0 16 rfl rfl)
theorem dJ6_checkIndex_17 : decode cJ6_checkIndex 17 = .ok (.ireturn, 1) := dk_172 (dk_at dksJ6_checkIndex_0 17 rfl rfl)
theorem q149 : (Jvm.Cond.initialized "jdk/internal/util/Preconditions") ∈ lw_all := lw_g (lw_at lw_m1 14 rfl) rfl
theorem q482 : (Jvm.Cond.laysStatic "jdk/internal/util/Preconditions" "SIOOBE_FORMATTER" "Ljava/util/function/BiFunction;") ∈ lw_tbl := lw_at lw_m2 107 rfl
theorem q484 : (Jvm.Cond.static ({ cls := "jdk/internal/util/Preconditions", name := "checkIndex", desc := "(IILjava/util/function/BiFunction;)I" } : Jvm.MethodName)) ∈ lw_all := lw_g (lw_at lw_m2 109 rfl) rfl
theorem q485 : (Jvm.Cond.code ({ cls := "jdk/internal/util/Preconditions", name := "checkIndex", desc := "(IILjava/util/function/BiFunction;)I" } : Jvm.MethodName) prog_47_method_11_code (3 : Nat) (Option.some Jvm.ClassFile.FieldType.int)) ∈ lw_all := lw_g (lw_at lw_m2 110 rfl) rfl

/-! java/lang/StringUTF16 -/
set_option maxRecDepth 100000
def RJ7 : String := "java/lang/StringUTF16"
abbrev cJ7_charAt : ByteArray := prog_32_method_83_code
def yJ7_charAt : MethodName := ⟨RJ7, "charAt", "([BI)C"⟩
def dkwJ7_charAt_0 : List UInt8 := [27, 42, 184, 0, 67, 42, 27, 184, 0, 71, 172]
abbrev dktJ7_charAt_0 : List UInt8 := dkwJ7_charAt_0 ++ []
theorem dksJ7_charAt_0 : cJ7_charAt.data.toList.drop 0 = dktJ7_charAt_0 := by decide +kernel
theorem dJ7_charAt_0 : decode cJ7_charAt 0 = .ok (.iload_n 1, 1) := dk_27 (dk_at dksJ7_charAt_0 0 rfl rfl)
theorem dJ7_charAt_1 : decode cJ7_charAt 1 = .ok (.aload_n 0, 1) := dk_42 (dk_at dksJ7_charAt_0 1 rfl rfl)
theorem dJ7_charAt_2 : decode cJ7_charAt 2 = .ok (.invokestatic 67, 3) := dk_184 0 67 (dk_at dksJ7_charAt_0 2 rfl rfl)
theorem dJ7_charAt_5 : decode cJ7_charAt 5 = .ok (.aload_n 0, 1) := dk_42 (dk_at dksJ7_charAt_0 5 rfl rfl)
theorem dJ7_charAt_6 : decode cJ7_charAt 6 = .ok (.iload_n 1, 1) := dk_27 (dk_at dksJ7_charAt_0 6 rfl rfl)
theorem dJ7_charAt_7 : decode cJ7_charAt 7 = .ok (.invokestatic 71, 3) := dk_184 0 71 (dk_at dksJ7_charAt_0 7 rfl rfl)
theorem dJ7_charAt_10 : decode cJ7_charAt 10 = .ok (.ireturn, 1) := dk_172 (dk_at dksJ7_charAt_0 10 rfl rfl)
abbrev cJ7_checkIndex : ByteArray := prog_32_method_91_code
def yJ7_checkIndex : MethodName := ⟨RJ7, "checkIndex", "(I[B)V"⟩
def dkwJ7_checkIndex_0 : List UInt8 := [26, 43, 184, 0, 48, 184, 1, 158, 177]
abbrev dktJ7_checkIndex_0 : List UInt8 := dkwJ7_checkIndex_0 ++ []
theorem dksJ7_checkIndex_0 : cJ7_checkIndex.data.toList.drop 0 = dktJ7_checkIndex_0 := by decide +kernel
theorem dJ7_checkIndex_0 : decode cJ7_checkIndex 0 = .ok (.iload_n 0, 1) := dk_26 (dk_at dksJ7_checkIndex_0 0 rfl rfl)
theorem dJ7_checkIndex_1 : decode cJ7_checkIndex 1 = .ok (.aload_n 1, 1) := dk_43 (dk_at dksJ7_checkIndex_0 1 rfl rfl)
theorem dJ7_checkIndex_2 : decode cJ7_checkIndex 2 = .ok (.invokestatic 48, 3) := dk_184 0 48 (dk_at dksJ7_checkIndex_0 2 rfl rfl)
theorem dJ7_checkIndex_5 : decode cJ7_checkIndex 5 = .ok (.invokestatic 414, 3) := dk_184 1 158 (dk_at dksJ7_checkIndex_0 5 rfl rfl)
theorem dJ7_checkIndex_8 : decode cJ7_checkIndex 8 = .ok (.return_, 1) := dk_177 (dk_at dksJ7_checkIndex_0 8 rfl rfl)
abbrev cJ7_length : ByteArray := prog_32_method_6_code
def yJ7_length : MethodName := ⟨RJ7, "length", "([B)I"⟩
def dkwJ7_length_0 : List UInt8 := [42, 190, 4, 122, 172]
abbrev dktJ7_length_0 : List UInt8 := dkwJ7_length_0 ++ []
theorem dksJ7_length_0 : cJ7_length.data.toList.drop 0 = dktJ7_length_0 := by decide +kernel
theorem dJ7_length_0 : decode cJ7_length 0 = .ok (.aload_n 0, 1) := dk_42 (dk_at dksJ7_length_0 0 rfl rfl)
theorem dJ7_length_1 : decode cJ7_length 1 = .ok (.arraylength, 1) := dk_190 (dk_at dksJ7_length_0 1 rfl rfl)
theorem dJ7_length_2 : decode cJ7_length 2 = .ok (.iconst 1, 1) := dk_4 (dk_at dksJ7_length_0 2 rfl rfl)
theorem dJ7_length_3 : decode cJ7_length 3 = .ok (.ishr, 1) := dk_122 (dk_at dksJ7_length_0 3 rfl rfl)
theorem dJ7_length_4 : decode cJ7_length 4 = .ok (.ireturn, 1) := dk_172 (dk_at dksJ7_length_0 4 rfl rfl)
abbrev cJ7_getChar : ByteArray := prog_32_method_5_code
def yJ7_getChar : MethodName := ⟨RJ7, "getChar", "([BI)C"⟩
def dkwJ7_getChar_2 : List UInt8 := [51, 17, 0, 255, 126, 178, 0, 63, 120, 128, 146, 172]
abbrev dktJ7_getChar_2 : List UInt8 := dkwJ7_getChar_2 ++ []
def dkwJ7_getChar_1 : List UInt8 := [183, 0, 56, 191, 27, 4, 120, 60, 42, 27, 132, 1, 1, 51, 17, 0, 255, 126, 178, 0, 59, 120, 42, 27]
abbrev dktJ7_getChar_1 : List UInt8 := dkwJ7_getChar_1 ++ dktJ7_getChar_2
def dkwJ7_getChar_0 : List UInt8 := [178, 0, 44, 154, 0, 25, 27, 155, 0, 11, 27, 42, 184, 0, 48, 161, 0, 13, 187, 0, 52, 89, 18, 54]
abbrev dktJ7_getChar_0 : List UInt8 := dkwJ7_getChar_0 ++ dktJ7_getChar_1
theorem dksJ7_getChar_0 : cJ7_getChar.data.toList.drop 0 = dktJ7_getChar_0 := by decide +kernel
theorem dksJ7_getChar_1 : cJ7_getChar.data.toList.drop 24 = dktJ7_getChar_1 := dk_seg dksJ7_getChar_0 24 rfl rfl
theorem dksJ7_getChar_2 : cJ7_getChar.data.toList.drop 48 = dktJ7_getChar_2 := dk_seg dksJ7_getChar_1 24 rfl rfl
theorem dJ7_getChar_0 : decode cJ7_getChar 0 = .ok (.getstatic 44, 3) := dk_178 0 44 (dk_at dksJ7_getChar_0 0 rfl rfl)
theorem dJ7_getChar_3 : decode cJ7_getChar 3 = .ok (.ifCond .ne 25, 3) := dk_154 0 25 (dk_at dksJ7_getChar_0 3 rfl rfl)
theorem dJ7_getChar_6 : decode cJ7_getChar 6 = .ok (.iload_n 1, 1) := dk_27 (dk_at dksJ7_getChar_0 6 rfl rfl)
theorem dJ7_getChar_7 : decode cJ7_getChar 7 = .ok (.ifCond .lt 11, 3) := dk_155 0 11 (dk_at dksJ7_getChar_0 7 rfl rfl)
theorem dJ7_getChar_10 : decode cJ7_getChar 10 = .ok (.iload_n 1, 1) := dk_27 (dk_at dksJ7_getChar_0 10 rfl rfl)
theorem dJ7_getChar_11 : decode cJ7_getChar 11 = .ok (.aload_n 0, 1) := dk_42 (dk_at dksJ7_getChar_0 11 rfl rfl)
theorem dJ7_getChar_12 : decode cJ7_getChar 12 = .ok (.invokestatic 48, 3) := dk_184 0 48 (dk_at dksJ7_getChar_0 12 rfl rfl)
theorem dJ7_getChar_15 : decode cJ7_getChar 15 = .ok (.if_icmp .lt 13, 3) := dk_161 0 13 (dk_at dksJ7_getChar_0 15 rfl rfl)
theorem dJ7_getChar_18 : decode cJ7_getChar 18 = .ok (.new 52, 3) := dk_187 0 52 (dk_at dksJ7_getChar_0 18 rfl rfl)
theorem dJ7_getChar_21 : decode cJ7_getChar 21 = .ok (.dup, 1) := dk_89 (dk_at dksJ7_getChar_0 21 rfl rfl)
theorem dJ7_getChar_22 : decode cJ7_getChar 22 = .ok (.ldc 54, 2) := dk_18 54 (dk_at dksJ7_getChar_0 22 rfl rfl)
theorem dJ7_getChar_24 : decode cJ7_getChar 24 = .ok (.invokespecial 56, 3) := dk_183 0 56 (dk_at dksJ7_getChar_1 0 rfl rfl)
theorem dJ7_getChar_27 : decode cJ7_getChar 27 = .ok (.athrow, 1) := dk_191 (dk_at dksJ7_getChar_1 3 rfl rfl)
theorem dJ7_getChar_28 : decode cJ7_getChar 28 = .ok (.iload_n 1, 1) := dk_27 (dk_at dksJ7_getChar_1 4 rfl rfl)
theorem dJ7_getChar_29 : decode cJ7_getChar 29 = .ok (.iconst 1, 1) := dk_4 (dk_at dksJ7_getChar_1 5 rfl rfl)
theorem dJ7_getChar_30 : decode cJ7_getChar 30 = .ok (.ishl, 1) := dk_120 (dk_at dksJ7_getChar_1 6 rfl rfl)
theorem dJ7_getChar_31 : decode cJ7_getChar 31 = .ok (.istore_n 1, 1) := dk_60 (dk_at dksJ7_getChar_1 7 rfl rfl)
theorem dJ7_getChar_32 : decode cJ7_getChar 32 = .ok (.aload_n 0, 1) := dk_42 (dk_at dksJ7_getChar_1 8 rfl rfl)
theorem dJ7_getChar_33 : decode cJ7_getChar 33 = .ok (.iload_n 1, 1) := dk_27 (dk_at dksJ7_getChar_1 9 rfl rfl)
theorem dJ7_getChar_34 : decode cJ7_getChar 34 = .ok (.iinc 1 1, 3) := dk_132 1 1 (dk_at dksJ7_getChar_1 10 rfl rfl)
theorem dJ7_getChar_37 : decode cJ7_getChar 37 = .ok (.baload, 1) := dk_51 (dk_at dksJ7_getChar_1 13 rfl rfl)
theorem dJ7_getChar_38 : decode cJ7_getChar 38 = .ok (.sipush 255, 3) := dk_17 0 255 (dk_at dksJ7_getChar_1 14 rfl rfl)
theorem dJ7_getChar_41 : decode cJ7_getChar 41 = .ok (.iand, 1) := dk_126 (dk_at dksJ7_getChar_1 17 rfl rfl)
theorem dJ7_getChar_42 : decode cJ7_getChar 42 = .ok (.getstatic 59, 3) := dk_178 0 59 (dk_at dksJ7_getChar_1 18 rfl rfl)
theorem dJ7_getChar_45 : decode cJ7_getChar 45 = .ok (.ishl, 1) := dk_120 (dk_at dksJ7_getChar_1 21 rfl rfl)
theorem dJ7_getChar_46 : decode cJ7_getChar 46 = .ok (.aload_n 0, 1) := dk_42 (dk_at dksJ7_getChar_1 22 rfl rfl)
theorem dJ7_getChar_47 : decode cJ7_getChar 47 = .ok (.iload_n 1, 1) := dk_27 (dk_at dksJ7_getChar_1 23 rfl rfl)
theorem dJ7_getChar_48 : decode cJ7_getChar 48 = .ok (.baload, 1) := dk_51 (dk_at dksJ7_getChar_2 0 rfl rfl)
theorem dJ7_getChar_49 : decode cJ7_getChar 49 = .ok (.sipush 255, 3) := dk_17 0 255 (dk_at dksJ7_getChar_2 1 rfl rfl)
theorem dJ7_getChar_52 : decode cJ7_getChar 52 = .ok (.iand, 1) := dk_126 (dk_at dksJ7_getChar_2 4 rfl rfl)
theorem dJ7_getChar_53 : decode cJ7_getChar 53 = .ok (.getstatic 63, 3) := dk_178 0 63 (dk_at dksJ7_getChar_2 5 rfl rfl)
theorem dJ7_getChar_56 : decode cJ7_getChar 56 = .ok (.ishl, 1) := dk_120 (dk_at dksJ7_getChar_2 8 rfl rfl)
theorem dJ7_getChar_57 : decode cJ7_getChar 57 = .ok (.ior, 1) := dk_128 (dk_at dksJ7_getChar_2 9 rfl rfl)
theorem dJ7_getChar_58 : decode cJ7_getChar 58 = .ok (.i2c, 1) := dk_146 (dk_at dksJ7_getChar_2 10 rfl rfl)
theorem dJ7_getChar_59 : decode cJ7_getChar 59 = .ok (.ireturn, 1) := dk_172 (dk_at dksJ7_getChar_2 11 rfl rfl)
theorem q150 : (Jvm.Cond.initialized "java/lang/StringUTF16") ∈ lw_all := lw_g (lw_at lw_m1 15 rfl) rfl
theorem q487 : (Jvm.Cond.static ({ cls := "java/lang/StringUTF16", name := "charAt", desc := "([BI)C" } : Jvm.MethodName)) ∈ lw_all := lw_g (lw_at lw_m2 112 rfl) rfl
theorem q488 : (Jvm.Cond.code ({ cls := "java/lang/StringUTF16", name := "charAt", desc := "([BI)C" } : Jvm.MethodName) prog_32_method_83_code (2 : Nat) (Option.some Jvm.ClassFile.FieldType.char)) ∈ lw_all := lw_g (lw_at lw_m2 113 rfl) rfl
theorem q489 : (Jvm.Cond.methodLink "java/lang/StringUTF16" (67 : Nat) ({ cls := "java/lang/StringUTF16", name := "checkIndex", desc := "(I[B)V" } : Jvm.MethodName)) ∈ lw_all := lw_g (lw_at lw_m2 114 rfl) rfl
theorem q490 : (Jvm.Cond.static ({ cls := "java/lang/StringUTF16", name := "checkIndex", desc := "(I[B)V" } : Jvm.MethodName)) ∈ lw_all := lw_g (lw_at lw_m2 115 rfl) rfl
theorem q491 : (Jvm.Cond.code ({ cls := "java/lang/StringUTF16", name := "checkIndex", desc := "(I[B)V" } : Jvm.MethodName) prog_32_method_91_code (2 : Nat) (Option.none : Option Jvm.ClassFile.FieldType)) ∈ lw_all := lw_g (lw_at lw_m2 116 rfl) rfl
theorem q492 : (Jvm.Cond.methodLink "java/lang/StringUTF16" (48 : Nat) ({ cls := "java/lang/StringUTF16", name := "length", desc := "([B)I" } : Jvm.MethodName)) ∈ lw_all := lw_g (lw_at lw_m2 117 rfl) rfl
theorem q493 : (Jvm.Cond.static ({ cls := "java/lang/StringUTF16", name := "length", desc := "([B)I" } : Jvm.MethodName)) ∈ lw_all := lw_g (lw_at lw_m2 118 rfl) rfl
theorem q494 : (Jvm.Cond.code ({ cls := "java/lang/StringUTF16", name := "length", desc := "([B)I" } : Jvm.MethodName) prog_32_method_6_code (1 : Nat) (Option.some Jvm.ClassFile.FieldType.int)) ∈ lw_all := lw_g (lw_at lw_m2 119 rfl) rfl
theorem q495 : (Jvm.Cond.methodLink "java/lang/StringUTF16" (414 : Nat) ({ cls := "java/lang/String", name := "checkIndex", desc := "(II)V" } : Jvm.MethodName)) ∈ lw_all := lw_g (lw_at lw_m2 120 rfl) rfl
theorem q496 : (Jvm.Cond.methodLink "java/lang/StringUTF16" (71 : Nat) ({ cls := "java/lang/StringUTF16", name := "getChar", desc := "([BI)C" } : Jvm.MethodName)) ∈ lw_all := lw_g (lw_at lw_m2 121 rfl) rfl
theorem q497 : (Jvm.Cond.static ({ cls := "java/lang/StringUTF16", name := "getChar", desc := "([BI)C" } : Jvm.MethodName)) ∈ lw_all := lw_g (lw_at lw_m2 122 rfl) rfl
theorem q498 : (Jvm.Cond.code ({ cls := "java/lang/StringUTF16", name := "getChar", desc := "([BI)C" } : Jvm.MethodName) prog_32_method_5_code (2 : Nat) (Option.some Jvm.ClassFile.FieldType.char)) ∈ lw_all := lw_g (lw_at lw_m2 123 rfl) rfl
theorem q499 : (Jvm.Cond.fieldLink "java/lang/StringUTF16" (44 : Nat) "java/lang/StringUTF16" "$assertionsDisabled" "Z") ∈ lw_all := lw_g (lw_at lw_m2 124 rfl) rfl
theorem q500 : (Jvm.Cond.laysStatic "java/lang/StringUTF16" "$assertionsDisabled" "Z") ∈ lw_tbl := lw_at lw_m2 125 rfl
theorem q501 : (Jvm.Cond.fieldLink "java/lang/StringUTF16" (59 : Nat) "java/lang/StringUTF16" "HI_BYTE_SHIFT" "I") ∈ lw_all := lw_g (lw_at lw_m2 126 rfl) rfl
theorem q502 : (Jvm.Cond.laysStatic "java/lang/StringUTF16" "HI_BYTE_SHIFT" "I") ∈ lw_tbl := lw_at lw_m2 127 rfl
theorem q503 : (Jvm.Cond.fieldLink "java/lang/StringUTF16" (63 : Nat) "java/lang/StringUTF16" "LO_BYTE_SHIFT" "I") ∈ lw_all := lw_g (lw_at lw_m2 128 rfl) rfl
theorem q504 : (Jvm.Cond.laysStatic "java/lang/StringUTF16" "LO_BYTE_SHIFT" "I") ∈ lw_tbl := lw_at lw_m2 129 rfl

/-! java/lang/Throwable -/
set_option maxRecDepth 100000
def RJ8 : String := "java/lang/Throwable"
def TJ8 : u_T := fun k => match k with
  | 0 => ("java/lang/Throwable", "cause", "Ljava/lang/Throwable;", false)
  | 1 => ("java/lang/Throwable", "stackTrace", "[Ljava/lang/StackTraceElement;", false)
  | 2 => ("java/lang/Throwable", "suppressedExceptions", "Ljava/util/List;", false)
  | 3 => ("java/lang/Throwable", "detailMessage", "Ljava/lang/String;", false)
  | _ => ("java/lang/Throwable", "backtrace", "Ljava/lang/Object;", false)
def tyJ8 : Nat → FieldType := fun k => match k with
  | 0 => .object "java/lang/Throwable"
  | 1 => .array (.object "java/lang/StackTraceElement")
  | 2 => .object "java/util/List"
  | 3 => .object "java/lang/String"
  | _ => .object "java/lang/Object"
abbrev wsJ80 : List Cond := u_ws RJ8 TJ8 5
theorem nmJ8 : ∀ a, a < 5 → ∀ b, b < 5 → a ≠ b → (TJ8 a).2.1 ≠ (TJ8 b).2.1 := by decide +kernel
theorem tyJ8_ok : ∀ k, k < 5 → parseFieldDescriptor (TJ8 k).2.2.1 = some (tyJ8 k) := by decide +kernel
abbrev cJ8_init : ByteArray := prog_34_method_1_code
def yJ8_init : MethodName := ⟨RJ8, "<init>", "()V"⟩
def dkwJ8_init_1 : List UInt8 := [182, 0, 27, 87, 177]
abbrev dktJ8_init_1 : List UInt8 := dkwJ8_init_1 ++ []
def dkwJ8_init_0 : List UInt8 := [42, 183, 0, 1, 42, 42, 181, 0, 7, 42, 178, 0, 13, 181, 0, 17, 42, 178, 0, 20, 181, 0, 24, 42]
abbrev dktJ8_init_0 : List UInt8 := dkwJ8_init_0 ++ dktJ8_init_1
theorem dksJ8_init_0 : cJ8_init.data.toList.drop 0 = dktJ8_init_0 := by decide +kernel
theorem dksJ8_init_1 : cJ8_init.data.toList.drop 24 = dktJ8_init_1 := dk_seg dksJ8_init_0 24 rfl rfl
theorem dJ8_init_0 : decode cJ8_init 0 = .ok (.aload_n 0, 1) := dk_42 (dk_at dksJ8_init_0 0 rfl rfl)
theorem dJ8_init_1 : decode cJ8_init 1 = .ok (.invokespecial 1, 3) := dk_183 0 1 (dk_at dksJ8_init_0 1 rfl rfl)
theorem dJ8_init_4 : decode cJ8_init 4 = .ok (.aload_n 0, 1) := dk_42 (dk_at dksJ8_init_0 4 rfl rfl)
theorem dJ8_init_5 : decode cJ8_init 5 = .ok (.aload_n 0, 1) := dk_42 (dk_at dksJ8_init_0 5 rfl rfl)
theorem dJ8_init_6 : decode cJ8_init 6 = .ok (.putfield 7, 3) := dk_181 0 7 (dk_at dksJ8_init_0 6 rfl rfl)
theorem dJ8_init_9 : decode cJ8_init 9 = .ok (.aload_n 0, 1) := dk_42 (dk_at dksJ8_init_0 9 rfl rfl)
theorem dJ8_init_10 : decode cJ8_init 10 = .ok (.getstatic 13, 3) := dk_178 0 13 (dk_at dksJ8_init_0 10 rfl rfl)
theorem dJ8_init_13 : decode cJ8_init 13 = .ok (.putfield 17, 3) := dk_181 0 17 (dk_at dksJ8_init_0 13 rfl rfl)
theorem dJ8_init_16 : decode cJ8_init 16 = .ok (.aload_n 0, 1) := dk_42 (dk_at dksJ8_init_0 16 rfl rfl)
theorem dJ8_init_17 : decode cJ8_init 17 = .ok (.getstatic 20, 3) := dk_178 0 20 (dk_at dksJ8_init_0 17 rfl rfl)
theorem dJ8_init_20 : decode cJ8_init 20 = .ok (.putfield 24, 3) := dk_181 0 24 (dk_at dksJ8_init_0 20 rfl rfl)
theorem dJ8_init_23 : decode cJ8_init 23 = .ok (.aload_n 0, 1) := dk_42 (dk_at dksJ8_init_0 23 rfl rfl)
theorem dJ8_init_24 : decode cJ8_init 24 = .ok (.invokevirtual 27, 3) := dk_182 0 27 (dk_at dksJ8_init_1 0 rfl rfl)
theorem dJ8_init_27 : decode cJ8_init 27 = .ok (.pop, 1) := dk_87 (dk_at dksJ8_init_1 3 rfl rfl)
theorem dJ8_init_28 : decode cJ8_init 28 = .ok (.return_, 1) := dk_177 (dk_at dksJ8_init_1 4 rfl rfl)
abbrev cJ8_init_2 : ByteArray := prog_34_method_5_code
def yJ8_init_2 : MethodName := ⟨RJ8, "<init>", "(Ljava/lang/String;Ljava/lang/Throwable;ZZ)V"⟩
def dkwJ8_init_2_2 : List UInt8 := [44, 181, 0, 7, 29, 154, 0, 8, 42, 1, 181, 0, 24, 177]
abbrev dktJ8_init_2_2 : List UInt8 := dkwJ8_init_2_2 ++ []
def dkwJ8_init_2_1 : List UInt8 := [21, 4, 153, 0, 11, 42, 182, 0, 27, 87, 167, 0, 8, 42, 1, 181, 0, 17, 42, 43, 181, 0, 31, 42]
abbrev dktJ8_init_2_1 : List UInt8 := dkwJ8_init_2_1 ++ dktJ8_init_2_2
def dkwJ8_init_2_0 : List UInt8 := [42, 183, 0, 1, 42, 42, 181, 0, 7, 42, 178, 0, 13, 181, 0, 17, 42, 178, 0, 20, 181, 0, 24]
abbrev dktJ8_init_2_0 : List UInt8 := dkwJ8_init_2_0 ++ dktJ8_init_2_1
theorem dksJ8_init_2_0 : cJ8_init_2.data.toList.drop 0 = dktJ8_init_2_0 := by decide +kernel
theorem dksJ8_init_2_1 : cJ8_init_2.data.toList.drop 23 = dktJ8_init_2_1 := dk_seg dksJ8_init_2_0 23 rfl rfl
theorem dksJ8_init_2_2 : cJ8_init_2.data.toList.drop 47 = dktJ8_init_2_2 := dk_seg dksJ8_init_2_1 24 rfl rfl
theorem dJ8_init_2_0 : decode cJ8_init_2 0 = .ok (.aload_n 0, 1) := dk_42 (dk_at dksJ8_init_2_0 0 rfl rfl)
theorem dJ8_init_2_1 : decode cJ8_init_2 1 = .ok (.invokespecial 1, 3) := dk_183 0 1 (dk_at dksJ8_init_2_0 1 rfl rfl)
theorem dJ8_init_2_4 : decode cJ8_init_2 4 = .ok (.aload_n 0, 1) := dk_42 (dk_at dksJ8_init_2_0 4 rfl rfl)
theorem dJ8_init_2_5 : decode cJ8_init_2 5 = .ok (.aload_n 0, 1) := dk_42 (dk_at dksJ8_init_2_0 5 rfl rfl)
theorem dJ8_init_2_6 : decode cJ8_init_2 6 = .ok (.putfield 7, 3) := dk_181 0 7 (dk_at dksJ8_init_2_0 6 rfl rfl)
theorem dJ8_init_2_9 : decode cJ8_init_2 9 = .ok (.aload_n 0, 1) := dk_42 (dk_at dksJ8_init_2_0 9 rfl rfl)
theorem dJ8_init_2_10 : decode cJ8_init_2 10 = .ok (.getstatic 13, 3) := dk_178 0 13 (dk_at dksJ8_init_2_0 10 rfl rfl)
theorem dJ8_init_2_13 : decode cJ8_init_2 13 = .ok (.putfield 17, 3) := dk_181 0 17 (dk_at dksJ8_init_2_0 13 rfl rfl)
theorem dJ8_init_2_16 : decode cJ8_init_2 16 = .ok (.aload_n 0, 1) := dk_42 (dk_at dksJ8_init_2_0 16 rfl rfl)
theorem dJ8_init_2_17 : decode cJ8_init_2 17 = .ok (.getstatic 20, 3) := dk_178 0 20 (dk_at dksJ8_init_2_0 17 rfl rfl)
theorem dJ8_init_2_20 : decode cJ8_init_2 20 = .ok (.putfield 24, 3) := dk_181 0 24 (dk_at dksJ8_init_2_0 20 rfl rfl)
theorem dJ8_init_2_23 : decode cJ8_init_2 23 = .ok (.iload 4, 2) := dk_21 4 (dk_at dksJ8_init_2_1 0 rfl rfl)
theorem dJ8_init_2_25 : decode cJ8_init_2 25 = .ok (.ifCond .eq 11, 3) := dk_153 0 11 (dk_at dksJ8_init_2_1 2 rfl rfl)
theorem dJ8_init_2_28 : decode cJ8_init_2 28 = .ok (.aload_n 0, 1) := dk_42 (dk_at dksJ8_init_2_1 5 rfl rfl)
theorem dJ8_init_2_29 : decode cJ8_init_2 29 = .ok (.invokevirtual 27, 3) := dk_182 0 27 (dk_at dksJ8_init_2_1 6 rfl rfl)
theorem dJ8_init_2_32 : decode cJ8_init_2 32 = .ok (.pop, 1) := dk_87 (dk_at dksJ8_init_2_1 9 rfl rfl)
theorem dJ8_init_2_33 : decode cJ8_init_2 33 = .ok (.goto 8, 3) := dk_167 0 8 (dk_at dksJ8_init_2_1 10 rfl rfl)
theorem dJ8_init_2_36 : decode cJ8_init_2 36 = .ok (.aload_n 0, 1) := dk_42 (dk_at dksJ8_init_2_1 13 rfl rfl)
theorem dJ8_init_2_37 : decode cJ8_init_2 37 = .ok (.aconst_null, 1) := dk_1 (dk_at dksJ8_init_2_1 14 rfl rfl)
theorem dJ8_init_2_38 : decode cJ8_init_2 38 = .ok (.putfield 17, 3) := dk_181 0 17 (dk_at dksJ8_init_2_1 15 rfl rfl)
theorem dJ8_init_2_41 : decode cJ8_init_2 41 = .ok (.aload_n 0, 1) := dk_42 (dk_at dksJ8_init_2_1 18 rfl rfl)
theorem dJ8_init_2_42 : decode cJ8_init_2 42 = .ok (.aload_n 1, 1) := dk_43 (dk_at dksJ8_init_2_1 19 rfl rfl)
theorem dJ8_init_2_43 : decode cJ8_init_2 43 = .ok (.putfield 31, 3) := dk_181 0 31 (dk_at dksJ8_init_2_1 20 rfl rfl)
theorem dJ8_init_2_46 : decode cJ8_init_2 46 = .ok (.aload_n 0, 1) := dk_42 (dk_at dksJ8_init_2_1 23 rfl rfl)
theorem dJ8_init_2_47 : decode cJ8_init_2 47 = .ok (.aload_n 2, 1) := dk_44 (dk_at dksJ8_init_2_2 0 rfl rfl)
theorem dJ8_init_2_48 : decode cJ8_init_2 48 = .ok (.putfield 7, 3) := dk_181 0 7 (dk_at dksJ8_init_2_2 1 rfl rfl)
theorem dJ8_init_2_51 : decode cJ8_init_2 51 = .ok (.iload_n 3, 1) := dk_29 (dk_at dksJ8_init_2_2 4 rfl rfl)
theorem dJ8_init_2_52 : decode cJ8_init_2 52 = .ok (.ifCond .ne 8, 3) := dk_154 0 8 (dk_at dksJ8_init_2_2 5 rfl rfl)
theorem dJ8_init_2_55 : decode cJ8_init_2 55 = .ok (.aload_n 0, 1) := dk_42 (dk_at dksJ8_init_2_2 8 rfl rfl)
theorem dJ8_init_2_56 : decode cJ8_init_2 56 = .ok (.aconst_null, 1) := dk_1 (dk_at dksJ8_init_2_2 9 rfl rfl)
theorem dJ8_init_2_57 : decode cJ8_init_2 57 = .ok (.putfield 24, 3) := dk_181 0 24 (dk_at dksJ8_init_2_2 10 rfl rfl)
theorem dJ8_init_2_60 : decode cJ8_init_2 60 = .ok (.return_, 1) := dk_177 (dk_at dksJ8_init_2_2 13 rfl rfl)
abbrev cJ8_init_3 : ByteArray := prog_34_method_2_code
def yJ8_init_3 : MethodName := ⟨RJ8, "<init>", "(Ljava/lang/String;)V"⟩
def dkwJ8_init_3_1 : List UInt8 := [182, 0, 27, 87, 42, 43, 181, 0, 31, 177]
abbrev dktJ8_init_3_1 : List UInt8 := dkwJ8_init_3_1 ++ []
def dkwJ8_init_3_0 : List UInt8 := [42, 183, 0, 1, 42, 42, 181, 0, 7, 42, 178, 0, 13, 181, 0, 17, 42, 178, 0, 20, 181, 0, 24, 42]
abbrev dktJ8_init_3_0 : List UInt8 := dkwJ8_init_3_0 ++ dktJ8_init_3_1
theorem dksJ8_init_3_0 : cJ8_init_3.data.toList.drop 0 = dktJ8_init_3_0 := by decide +kernel
theorem dksJ8_init_3_1 : cJ8_init_3.data.toList.drop 24 = dktJ8_init_3_1 := dk_seg dksJ8_init_3_0 24 rfl rfl
theorem dJ8_init_3_0 : decode cJ8_init_3 0 = .ok (.aload_n 0, 1) := dk_42 (dk_at dksJ8_init_3_0 0 rfl rfl)
theorem dJ8_init_3_1 : decode cJ8_init_3 1 = .ok (.invokespecial 1, 3) := dk_183 0 1 (dk_at dksJ8_init_3_0 1 rfl rfl)
theorem dJ8_init_3_4 : decode cJ8_init_3 4 = .ok (.aload_n 0, 1) := dk_42 (dk_at dksJ8_init_3_0 4 rfl rfl)
theorem dJ8_init_3_5 : decode cJ8_init_3 5 = .ok (.aload_n 0, 1) := dk_42 (dk_at dksJ8_init_3_0 5 rfl rfl)
theorem dJ8_init_3_6 : decode cJ8_init_3 6 = .ok (.putfield 7, 3) := dk_181 0 7 (dk_at dksJ8_init_3_0 6 rfl rfl)
theorem dJ8_init_3_9 : decode cJ8_init_3 9 = .ok (.aload_n 0, 1) := dk_42 (dk_at dksJ8_init_3_0 9 rfl rfl)
theorem dJ8_init_3_10 : decode cJ8_init_3 10 = .ok (.getstatic 13, 3) := dk_178 0 13 (dk_at dksJ8_init_3_0 10 rfl rfl)
theorem dJ8_init_3_13 : decode cJ8_init_3 13 = .ok (.putfield 17, 3) := dk_181 0 17 (dk_at dksJ8_init_3_0 13 rfl rfl)
theorem dJ8_init_3_16 : decode cJ8_init_3 16 = .ok (.aload_n 0, 1) := dk_42 (dk_at dksJ8_init_3_0 16 rfl rfl)
theorem dJ8_init_3_17 : decode cJ8_init_3 17 = .ok (.getstatic 20, 3) := dk_178 0 20 (dk_at dksJ8_init_3_0 17 rfl rfl)
theorem dJ8_init_3_20 : decode cJ8_init_3 20 = .ok (.putfield 24, 3) := dk_181 0 24 (dk_at dksJ8_init_3_0 20 rfl rfl)
theorem dJ8_init_3_23 : decode cJ8_init_3 23 = .ok (.aload_n 0, 1) := dk_42 (dk_at dksJ8_init_3_0 23 rfl rfl)
theorem dJ8_init_3_24 : decode cJ8_init_3 24 = .ok (.invokevirtual 27, 3) := dk_182 0 27 (dk_at dksJ8_init_3_1 0 rfl rfl)
theorem dJ8_init_3_27 : decode cJ8_init_3 27 = .ok (.pop, 1) := dk_87 (dk_at dksJ8_init_3_1 3 rfl rfl)
theorem dJ8_init_3_28 : decode cJ8_init_3 28 = .ok (.aload_n 0, 1) := dk_42 (dk_at dksJ8_init_3_1 4 rfl rfl)
theorem dJ8_init_3_29 : decode cJ8_init_3 29 = .ok (.aload_n 1, 1) := dk_43 (dk_at dksJ8_init_3_1 5 rfl rfl)
theorem dJ8_init_3_30 : decode cJ8_init_3 30 = .ok (.putfield 31, 3) := dk_181 0 31 (dk_at dksJ8_init_3_1 6 rfl rfl)
theorem dJ8_init_3_33 : decode cJ8_init_3 33 = .ok (.return_, 1) := dk_177 (dk_at dksJ8_init_3_1 9 rfl rfl)
theorem q151 : (Jvm.Cond.initialized "java/lang/Throwable") ∈ lw_all := lw_g (lw_at lw_m1 16 rfl) rfl
theorem q514 : (Jvm.Cond.declares ({ cls := "java/lang/Throwable", name := "<init>", desc := "()V" } : Jvm.MethodName)) ∈ lw_tbl := lw_at lw_m2 139 rfl
theorem q515 : (Jvm.Cond.declares ({ cls := "java/lang/Throwable", name := "<init>", desc := "(Ljava/lang/String;)V" } : Jvm.MethodName)) ∈ lw_tbl := lw_at lw_m2 140 rfl
theorem q519 : (Jvm.Cond.lays "java/lang/Throwable" "java/lang/Throwable" "cause" "Ljava/lang/Throwable;") ∈ lw_all := lw_g (lw_at lw_m2 144 rfl) rfl
theorem q521 : (Jvm.Cond.lays "java/lang/Throwable" "java/lang/Throwable" "stackTrace" "[Ljava/lang/StackTraceElement;") ∈ lw_all := lw_g (lw_at lw_m2 146 rfl) rfl
theorem q523 : (Jvm.Cond.lays "java/lang/Throwable" "java/lang/Throwable" "suppressedExceptions" "Ljava/util/List;") ∈ lw_all := lw_g (lw_at lw_m2 148 rfl) rfl
theorem q525 : (Jvm.Cond.lays "java/lang/Throwable" "java/lang/Throwable" "detailMessage" "Ljava/lang/String;") ∈ lw_all := lw_g (lw_at lw_m2 150 rfl) rfl
theorem q527 : (Jvm.Cond.lays "java/lang/Throwable" "java/lang/Throwable" "backtrace" "Ljava/lang/Object;") ∈ lw_all := lw_g (lw_at lw_m2 152 rfl) rfl
theorem q528 : (Jvm.Cond.fieldLink "java/lang/Throwable" (198 : Nat) "java/lang/Throwable" "backtrace" "Ljava/lang/Object;") ∈ lw_all := lw_g (lw_at lw_m2 153 rfl) rfl
theorem q529 : (Jvm.Cond.superclass "java/lang/Throwable" "java/lang/Object") ∈ lw_all := lw_g (lw_at lw_m2 154 rfl) rfl
theorem q530 : (Jvm.Cond.instanceMethod ({ cls := "java/lang/Throwable", name := "<init>", desc := "()V" } : Jvm.MethodName)) ∈ lw_all := lw_g (lw_at lw_m2 155 rfl) rfl
theorem q531 : (Jvm.Cond.code ({ cls := "java/lang/Throwable", name := "<init>", desc := "()V" } : Jvm.MethodName) prog_34_method_1_code (1 : Nat) (Option.none : Option Jvm.ClassFile.FieldType)) ∈ lw_all := lw_g (lw_at lw_m2 156 rfl) rfl
theorem q532 : (Jvm.Cond.methodLink "java/lang/Throwable" (1 : Nat) ({ cls := "java/lang/Object", name := "<init>", desc := "()V" } : Jvm.MethodName)) ∈ lw_all := lw_g (lw_at lw_m2 157 rfl) rfl
theorem q533 : (Jvm.Cond.fieldLink "java/lang/Throwable" (13 : Nat) "java/lang/Throwable" "UNASSIGNED_STACK" "[Ljava/lang/StackTraceElement;") ∈ lw_all := lw_g (lw_at lw_m2 158 rfl) rfl
theorem q534 : (Jvm.Cond.laysStatic "java/lang/Throwable" "UNASSIGNED_STACK" "[Ljava/lang/StackTraceElement;") ∈ lw_tbl := lw_at lw_m2 159 rfl
theorem q535 : (Jvm.Cond.fieldLink "java/lang/Throwable" (20 : Nat) "java/lang/Throwable" "SUPPRESSED_SENTINEL" "Ljava/util/List;") ∈ lw_all := lw_g (lw_at lw_m2 160 rfl) rfl
theorem q536 : (Jvm.Cond.laysStatic "java/lang/Throwable" "SUPPRESSED_SENTINEL" "Ljava/util/List;") ∈ lw_tbl := lw_at lw_m2 161 rfl
theorem q537 : (Jvm.Cond.methodLink "java/lang/Throwable" (27 : Nat) ({ cls := "java/lang/Throwable", name := "fillInStackTrace", desc := "()Ljava/lang/Throwable;" } : Jvm.MethodName)) ∈ lw_all := lw_g (lw_at lw_m2 162 rfl) rfl
theorem q538 : (Jvm.Cond.instanceMethod ({ cls := "java/lang/Throwable", name := "fillInStackTrace", desc := "()Ljava/lang/Throwable;" } : Jvm.MethodName)) ∈ lw_all := lw_g (lw_at lw_m2 163 rfl) rfl
theorem q539 : (Jvm.Cond.sameMethod "java/lang/Throwable" "java/lang/Throwable" "fillInStackTrace" "()Ljava/lang/Throwable;") ∈ lw_all := lw_g (lw_at lw_m2 164 rfl) rfl
theorem q553 : (Jvm.Cond.declares ({ cls := "java/lang/Throwable", name := "fillInStackTrace", desc := "()Ljava/lang/Throwable;" } : Jvm.MethodName)) ∈ lw_tbl := lw_at lw_m2 178 rfl
theorem q557 : (Jvm.Cond.codeSync ({ cls := "java/lang/Throwable", name := "fillInStackTrace", desc := "()Ljava/lang/Throwable;" } : Jvm.MethodName) prog_34_method_18_code (1 : Nat) (Option.some (Jvm.ClassFile.FieldType.object "java/lang/Throwable"))) ∈ lw_all := lw_g (lw_at lw_m2 182 rfl) rfl
theorem q558 : (Jvm.Cond.methodLink "java/lang/Throwable" (202 : Nat) ({ cls := "java/lang/Throwable", name := "fillInStackTrace", desc := "(I)Ljava/lang/Throwable;" } : Jvm.MethodName)) ∈ lw_all := lw_g (lw_at lw_m2 183 rfl) rfl
theorem q559 : (Jvm.Cond.privateMethod ({ cls := "java/lang/Throwable", name := "fillInStackTrace", desc := "(I)Ljava/lang/Throwable;" } : Jvm.MethodName)) ∈ lw_tbl := lw_at lw_m2 184 rfl
theorem q560 : (Jvm.Cond.instanceMethod ({ cls := "java/lang/Throwable", name := "fillInStackTrace", desc := "(I)Ljava/lang/Throwable;" } : Jvm.MethodName)) ∈ lw_all := lw_g (lw_at lw_m2 185 rfl) rfl
theorem q561 : (Jvm.Cond.instantiable "java/lang/Throwable" (6 : Nat)) ∈ lw_all := lw_g (lw_at lw_m2 186 rfl) rfl
theorem q562 : (Jvm.Cond.native ({ cls := "java/lang/Throwable", name := "fillInStackTrace", desc := "(I)Ljava/lang/Throwable;" } : Jvm.MethodName)) ∈ lw_all := lw_g (lw_at lw_m2 187 rfl) rfl
theorem q570 : (Jvm.Cond.instanceMethod ({ cls := "java/lang/Throwable", name := "<init>", desc := "(Ljava/lang/String;Ljava/lang/Throwable;ZZ)V" } : Jvm.MethodName)) ∈ lw_all := lw_g (lw_at lw_m2 195 rfl) rfl
theorem q571 : (Jvm.Cond.code ({ cls := "java/lang/Throwable", name := "<init>", desc := "(Ljava/lang/String;Ljava/lang/Throwable;ZZ)V" } : Jvm.MethodName) prog_34_method_5_code (5 : Nat) (Option.none : Option Jvm.ClassFile.FieldType)) ∈ lw_all := lw_g (lw_at lw_m2 196 rfl) rfl
theorem q576 : (Jvm.Cond.fieldLink "java/lang/Throwable" (198 : Nat) "java/lang/Throwable" "backtrace" "Ljava/lang/Object;") ∈ lw_all := lw_g (lw_at lw_m2 201 rfl) rfl
theorem q577 : (Jvm.Cond.fieldLink "java/lang/Throwable" (31 : Nat) "java/lang/Throwable" "detailMessage" "Ljava/lang/String;") ∈ lw_all := lw_g (lw_at lw_m2 202 rfl) rfl
theorem q578 : (Jvm.Cond.fieldLink "java/lang/Throwable" (7 : Nat) "java/lang/Throwable" "cause" "Ljava/lang/Throwable;") ∈ lw_all := lw_g (lw_at lw_m2 203 rfl) rfl
theorem q579 : (Jvm.Cond.fieldLink "java/lang/Throwable" (17 : Nat) "java/lang/Throwable" "stackTrace" "[Ljava/lang/StackTraceElement;") ∈ lw_all := lw_g (lw_at lw_m2 204 rfl) rfl
theorem q580 : (Jvm.Cond.fieldLink "java/lang/Throwable" (24 : Nat) "java/lang/Throwable" "suppressedExceptions" "Ljava/util/List;") ∈ lw_all := lw_g (lw_at lw_m2 205 rfl) rfl
theorem q585 : (Jvm.Cond.soleField "java/lang/Throwable" "backtrace") ∈ lw_all := lw_g (lw_at lw_m2 210 rfl) rfl
theorem q586 : (Jvm.Cond.soleField "java/lang/Throwable" "detailMessage") ∈ lw_all := lw_g (lw_at lw_m2 211 rfl) rfl
theorem q587 : (Jvm.Cond.soleField "java/lang/Throwable" "cause") ∈ lw_all := lw_g (lw_at lw_m2 212 rfl) rfl
theorem q588 : (Jvm.Cond.soleField "java/lang/Throwable" "stackTrace") ∈ lw_all := lw_g (lw_at lw_m2 213 rfl) rfl
theorem q590 : (Jvm.Cond.soleField "java/lang/Throwable" "depth") ∈ lw_all := lw_g (lw_at lw_m2 215 rfl) rfl
theorem q591 : (Jvm.Cond.soleField "java/lang/Throwable" "suppressedExceptions") ∈ lw_all := lw_g (lw_at lw_m2 216 rfl) rfl
theorem q1320 : (Jvm.Cond.instanceMethod ({ cls := "java/lang/Throwable", name := "<init>", desc := "(Ljava/lang/String;)V" } : Jvm.MethodName)) ∈ lw_all := lw_g (lw_at lw_m5 225 rfl) rfl
theorem q1321 : (Jvm.Cond.code ({ cls := "java/lang/Throwable", name := "<init>", desc := "(Ljava/lang/String;)V" } : Jvm.MethodName) prog_34_method_2_code (2 : Nat) (Option.none : Option Jvm.ClassFile.FieldType)) ∈ lw_all := lw_g (lw_at lw_m5 226 rfl) rfl
theorem q2080 : (Jvm.Cond.sameMethod "java/lang/Throwable" "java/lang/Throwable" "fillInStackTrace" "(I)Ljava/lang/Throwable;") ∈ lw_all := lw_g (lw_at lw_m9 25 rfl) rfl
theorem q2106 : (Jvm.Cond.castable "java/lang/Throwable" "java/lang/Object") ∈ lw_tbl := lw_at lw_m9 51 rfl
theorem in_J8 : ∀ w ∈ wsJ80, w ∈ lw_all := lw_in wsJ80 [519, 521, 523, 525, 527] (by decide +kernel) (by decide +kernel)

/-! java/lang/Exception -/
set_option maxRecDepth 100000
def RJ9 : String := "java/lang/Exception"
abbrev cJ9_init : ByteArray := prog_22_method_5_code
def yJ9_init : MethodName := ⟨RJ9, "<init>", "(Ljava/lang/String;Ljava/lang/Throwable;ZZ)V"⟩
def dkwJ9_init_0 : List UInt8 := [42, 43, 44, 29, 21, 4, 183, 0, 16, 177]
abbrev dktJ9_init_0 : List UInt8 := dkwJ9_init_0 ++ []
theorem dksJ9_init_0 : cJ9_init.data.toList.drop 0 = dktJ9_init_0 := by decide +kernel
theorem dJ9_init_0 : decode cJ9_init 0 = .ok (.aload_n 0, 1) := dk_42 (dk_at dksJ9_init_0 0 rfl rfl)
theorem dJ9_init_1 : decode cJ9_init 1 = .ok (.aload_n 1, 1) := dk_43 (dk_at dksJ9_init_0 1 rfl rfl)
theorem dJ9_init_2 : decode cJ9_init 2 = .ok (.aload_n 2, 1) := dk_44 (dk_at dksJ9_init_0 2 rfl rfl)
theorem dJ9_init_3 : decode cJ9_init 3 = .ok (.iload_n 3, 1) := dk_29 (dk_at dksJ9_init_0 3 rfl rfl)
theorem dJ9_init_4 : decode cJ9_init 4 = .ok (.iload 4, 2) := dk_21 4 (dk_at dksJ9_init_0 4 rfl rfl)
theorem dJ9_init_6 : decode cJ9_init 6 = .ok (.invokespecial 16, 3) := dk_183 0 16 (dk_at dksJ9_init_0 6 rfl rfl)
theorem dJ9_init_9 : decode cJ9_init 9 = .ok (.return_, 1) := dk_177 (dk_at dksJ9_init_0 9 rfl rfl)
abbrev cJ9_init_2 : ByteArray := prog_22_method_1_code
def yJ9_init_2 : MethodName := ⟨RJ9, "<init>", "()V"⟩
theorem dJ9_init_2_0 : decode cJ9_init_2 0 = .ok (.aload_n 0, 1) := by decide +kernel
theorem dJ9_init_2_1 : decode cJ9_init_2 1 = .ok (.invokespecial 1, 3) := by decide +kernel
theorem dJ9_init_2_4 : decode cJ9_init_2 4 = .ok (.return_, 1) := by decide +kernel
abbrev cJ9_init_3 : ByteArray := prog_22_method_2_code
def yJ9_init_3 : MethodName := ⟨RJ9, "<init>", "(Ljava/lang/String;)V"⟩
def dkwJ9_init_3_0 : List UInt8 := [42, 43, 183, 0, 7, 177]
abbrev dktJ9_init_3_0 : List UInt8 := dkwJ9_init_3_0 ++ []
theorem dksJ9_init_3_0 : cJ9_init_3.data.toList.drop 0 = dktJ9_init_3_0 := by decide +kernel
theorem dJ9_init_3_0 : decode cJ9_init_3 0 = .ok (.aload_n 0, 1) := dk_42 (dk_at dksJ9_init_3_0 0 rfl rfl)
theorem dJ9_init_3_1 : decode cJ9_init_3 1 = .ok (.aload_n 1, 1) := dk_43 (dk_at dksJ9_init_3_0 1 rfl rfl)
theorem dJ9_init_3_2 : decode cJ9_init_3 2 = .ok (.invokespecial 7, 3) := dk_183 0 7 (dk_at dksJ9_init_3_0 2 rfl rfl)
theorem dJ9_init_3_5 : decode cJ9_init_3 5 = .ok (.return_, 1) := dk_177 (dk_at dksJ9_init_3_0 5 rfl rfl)
theorem q152 : (Jvm.Cond.initialized "java/lang/Exception") ∈ lw_all := lw_g (lw_at lw_m1 17 rfl) rfl
theorem q512 : (Jvm.Cond.declares ({ cls := "java/lang/Exception", name := "<init>", desc := "()V" } : Jvm.MethodName)) ∈ lw_tbl := lw_at lw_m2 137 rfl
theorem q513 : (Jvm.Cond.declares ({ cls := "java/lang/Exception", name := "<init>", desc := "(Ljava/lang/String;)V" } : Jvm.MethodName)) ∈ lw_tbl := lw_at lw_m2 138 rfl
theorem q556 : (Jvm.Cond.superclass "java/lang/Exception" "java/lang/Throwable") ∈ lw_all := lw_g (lw_at lw_m2 181 rfl) rfl
theorem q567 : (Jvm.Cond.instanceMethod ({ cls := "java/lang/Exception", name := "<init>", desc := "(Ljava/lang/String;Ljava/lang/Throwable;ZZ)V" } : Jvm.MethodName)) ∈ lw_all := lw_g (lw_at lw_m2 192 rfl) rfl
theorem q568 : (Jvm.Cond.code ({ cls := "java/lang/Exception", name := "<init>", desc := "(Ljava/lang/String;Ljava/lang/Throwable;ZZ)V" } : Jvm.MethodName) prog_22_method_5_code (5 : Nat) (Option.none : Option Jvm.ClassFile.FieldType)) ∈ lw_all := lw_g (lw_at lw_m2 193 rfl) rfl
theorem q569 : (Jvm.Cond.methodLink "java/lang/Exception" (16 : Nat) ({ cls := "java/lang/Throwable", name := "<init>", desc := "(Ljava/lang/String;Ljava/lang/Throwable;ZZ)V" } : Jvm.MethodName)) ∈ lw_all := lw_g (lw_at lw_m2 194 rfl) rfl
theorem q1065 : (Jvm.Cond.instanceMethod ({ cls := "java/lang/Exception", name := "<init>", desc := "()V" } : Jvm.MethodName)) ∈ lw_all := lw_g (lw_at lw_m4 210 rfl) rfl
theorem q1066 : (Jvm.Cond.code ({ cls := "java/lang/Exception", name := "<init>", desc := "()V" } : Jvm.MethodName) prog_22_method_1_code (1 : Nat) (Option.none : Option Jvm.ClassFile.FieldType)) ∈ lw_all := lw_g (lw_at lw_m4 211 rfl) rfl
theorem q1067 : (Jvm.Cond.methodLink "java/lang/Exception" (1 : Nat) ({ cls := "java/lang/Throwable", name := "<init>", desc := "()V" } : Jvm.MethodName)) ∈ lw_all := lw_g (lw_at lw_m4 212 rfl) rfl
theorem q1317 : (Jvm.Cond.instanceMethod ({ cls := "java/lang/Exception", name := "<init>", desc := "(Ljava/lang/String;)V" } : Jvm.MethodName)) ∈ lw_all := lw_g (lw_at lw_m5 222 rfl) rfl
theorem q1318 : (Jvm.Cond.code ({ cls := "java/lang/Exception", name := "<init>", desc := "(Ljava/lang/String;)V" } : Jvm.MethodName) prog_22_method_2_code (2 : Nat) (Option.none : Option Jvm.ClassFile.FieldType)) ∈ lw_all := lw_g (lw_at lw_m5 223 rfl) rfl
theorem q1319 : (Jvm.Cond.methodLink "java/lang/Exception" (7 : Nat) ({ cls := "java/lang/Throwable", name := "<init>", desc := "(Ljava/lang/String;)V" } : Jvm.MethodName)) ∈ lw_all := lw_g (lw_at lw_m5 224 rfl) rfl

/-! CardHolder$City -/
set_option maxRecDepth 100000
def RX1 : String := "CardHolder$City"
def TX1 : u_T := fun k => match k with
  | 0 => ("CardHolder$City", "wear", "I", false)
  | 1 => ("CardHolder$City", "lines", "I", false)
  | 2 => ("CardHolder$City", "persons", "I", false)
  | 3 => ("CardHolder$City", "acts", "I", false)
  | 4 => ("CardHolder$City", "forged", "I", false)
  | 5 => ("CardHolder$City", "told", "I", false)
  | 6 => ("CardHolder$City", "worth", "[I", true)
  | 7 => ("CardHolder$City", "does", "[I", true)
  | 8 => ("CardHolder$City", "wishes", "[I", true)
  | 9 => ("CardHolder$City", "holder", "[I", true)
  | _ => ("CardHolder$City", "act", "[I", true)
def tyX1 : Nat → FieldType := fun k => match k with
  | 0 => .int
  | 1 => .int
  | 2 => .int
  | 3 => .int
  | 4 => .int
  | 5 => .int
  | 6 => .array .int
  | 7 => .array .int
  | 8 => .array .int
  | 9 => .array .int
  | _ => .array .int
abbrev wsX10 : List Cond := u_ws RX1 TX1 11
theorem nmX1 : ∀ a, a < 11 → ∀ b, b < 11 → a ≠ b → (TX1 a).2.1 ≠ (TX1 b).2.1 := by decide +kernel
theorem tyX1_ok : ∀ k, k < 11 → parseFieldDescriptor (TX1 k).2.2.1 = some (tyX1 k) := by decide +kernel
abbrev cX1_init : ByteArray := prog_4_method_1_code
def yX1_init : MethodName := ⟨RX1, "<init>", "()V"⟩
def dkwX1_init_1 : List UInt8 := [188, 10, 181, 0, 18, 42, 16, 8, 188, 10, 181, 0, 21, 42, 16, 40, 188, 10, 181, 0, 24, 177]
abbrev dktX1_init_1 : List UInt8 := dkwX1_init_1 ++ []
def dkwX1_init_0 : List UInt8 := [42, 183, 0, 3, 42, 16, 8, 188, 10, 181, 0, 9, 42, 16, 8, 188, 10, 181, 0, 15, 42, 16, 8]
abbrev dktX1_init_0 : List UInt8 := dkwX1_init_0 ++ dktX1_init_1
theorem dksX1_init_0 : cX1_init.data.toList.drop 0 = dktX1_init_0 := by decide +kernel
theorem dksX1_init_1 : cX1_init.data.toList.drop 23 = dktX1_init_1 := dk_seg dksX1_init_0 23 rfl rfl
theorem dX1_init_0 : decode cX1_init 0 = .ok (.aload_n 0, 1) := dk_42 (dk_at dksX1_init_0 0 rfl rfl)
theorem dX1_init_1 : decode cX1_init 1 = .ok (.invokespecial 3, 3) := dk_183 0 3 (dk_at dksX1_init_0 1 rfl rfl)
theorem dX1_init_4 : decode cX1_init 4 = .ok (.aload_n 0, 1) := dk_42 (dk_at dksX1_init_0 4 rfl rfl)
theorem dX1_init_5 : decode cX1_init 5 = .ok (.bipush 8, 2) := dk_16 8 (dk_at dksX1_init_0 5 rfl rfl)
theorem dX1_init_7 : decode cX1_init 7 = .ok (.newarray .int, 2) := dk_188_10 (dk_at dksX1_init_0 7 rfl rfl)
theorem dX1_init_9 : decode cX1_init 9 = .ok (.putfield 9, 3) := dk_181 0 9 (dk_at dksX1_init_0 9 rfl rfl)
theorem dX1_init_12 : decode cX1_init 12 = .ok (.aload_n 0, 1) := dk_42 (dk_at dksX1_init_0 12 rfl rfl)
theorem dX1_init_13 : decode cX1_init 13 = .ok (.bipush 8, 2) := dk_16 8 (dk_at dksX1_init_0 13 rfl rfl)
theorem dX1_init_15 : decode cX1_init 15 = .ok (.newarray .int, 2) := dk_188_10 (dk_at dksX1_init_0 15 rfl rfl)
theorem dX1_init_17 : decode cX1_init 17 = .ok (.putfield 15, 3) := dk_181 0 15 (dk_at dksX1_init_0 17 rfl rfl)
theorem dX1_init_20 : decode cX1_init 20 = .ok (.aload_n 0, 1) := dk_42 (dk_at dksX1_init_0 20 rfl rfl)
theorem dX1_init_21 : decode cX1_init 21 = .ok (.bipush 8, 2) := dk_16 8 (dk_at dksX1_init_0 21 rfl rfl)
theorem dX1_init_23 : decode cX1_init 23 = .ok (.newarray .int, 2) := dk_188_10 (dk_at dksX1_init_1 0 rfl rfl)
theorem dX1_init_25 : decode cX1_init 25 = .ok (.putfield 18, 3) := dk_181 0 18 (dk_at dksX1_init_1 2 rfl rfl)
theorem dX1_init_28 : decode cX1_init 28 = .ok (.aload_n 0, 1) := dk_42 (dk_at dksX1_init_1 5 rfl rfl)
theorem dX1_init_29 : decode cX1_init 29 = .ok (.bipush 8, 2) := dk_16 8 (dk_at dksX1_init_1 6 rfl rfl)
theorem dX1_init_31 : decode cX1_init 31 = .ok (.newarray .int, 2) := dk_188_10 (dk_at dksX1_init_1 8 rfl rfl)
theorem dX1_init_33 : decode cX1_init 33 = .ok (.putfield 21, 3) := dk_181 0 21 (dk_at dksX1_init_1 10 rfl rfl)
theorem dX1_init_36 : decode cX1_init 36 = .ok (.aload_n 0, 1) := dk_42 (dk_at dksX1_init_1 13 rfl rfl)
theorem dX1_init_37 : decode cX1_init 37 = .ok (.bipush 40, 2) := dk_16 40 (dk_at dksX1_init_1 14 rfl rfl)
theorem dX1_init_39 : decode cX1_init 39 = .ok (.newarray .int, 2) := dk_188_10 (dk_at dksX1_init_1 16 rfl rfl)
theorem dX1_init_41 : decode cX1_init 41 = .ok (.putfield 24, 3) := dk_181 0 24 (dk_at dksX1_init_1 18 rfl rfl)
theorem dX1_init_44 : decode cX1_init 44 = .ok (.return_, 1) := dk_177 (dk_at dksX1_init_1 21 rfl rfl)
abbrev cX1_copy : ByteArray := prog_4_method_2_code
def yX1_copy : MethodName := ⟨RX1, "copy", "()LCardHolder$City;"⟩
def dkwX1_copy_5 : List UInt8 := [3, 43, 180, 0, 24, 3, 16, 40, 184, 0, 47, 43, 176]
abbrev dktX1_copy_5 : List UInt8 := dkwX1_copy_5 ++ []
def dkwX1_copy_4 : List UInt8 := [16, 8, 184, 0, 47, 42, 180, 0, 21, 3, 43, 180, 0, 21, 3, 16, 8, 184, 0, 47, 42, 180, 0, 24]
abbrev dktX1_copy_4 : List UInt8 := dkwX1_copy_4 ++ dktX1_copy_5
def dkwX1_copy_3 : List UInt8 := [180, 0, 15, 3, 43, 180, 0, 15, 3, 16, 8, 184, 0, 47, 42, 180, 0, 18, 3, 43, 180, 0, 18, 3]
abbrev dktX1_copy_3 : List UInt8 := dkwX1_copy_3 ++ dktX1_copy_4
def dkwX1_copy_2 : List UInt8 := [43, 42, 180, 0, 44, 181, 0, 44, 42, 180, 0, 9, 3, 43, 180, 0, 9, 3, 16, 8, 184, 0, 47, 42]
abbrev dktX1_copy_2 : List UInt8 := dkwX1_copy_2 ++ dktX1_copy_3
def dkwX1_copy_1 : List UInt8 := [43, 42, 180, 0, 35, 181, 0, 35, 43, 42, 180, 0, 38, 181, 0, 38, 43, 42, 180, 0, 41, 181, 0, 41]
abbrev dktX1_copy_1 : List UInt8 := dkwX1_copy_1 ++ dktX1_copy_2
def dkwX1_copy_0 : List UInt8 := [187, 0, 10, 89, 183, 0, 27, 76, 43, 42, 180, 0, 28, 181, 0, 28, 43, 42, 180, 0, 32, 181, 0, 32]
abbrev dktX1_copy_0 : List UInt8 := dkwX1_copy_0 ++ dktX1_copy_1
theorem dksX1_copy_0 : cX1_copy.data.toList.drop 0 = dktX1_copy_0 := by decide +kernel
theorem dksX1_copy_1 : cX1_copy.data.toList.drop 24 = dktX1_copy_1 := dk_seg dksX1_copy_0 24 rfl rfl
theorem dksX1_copy_2 : cX1_copy.data.toList.drop 48 = dktX1_copy_2 := dk_seg dksX1_copy_1 24 rfl rfl
theorem dksX1_copy_3 : cX1_copy.data.toList.drop 72 = dktX1_copy_3 := dk_seg dksX1_copy_2 24 rfl rfl
theorem dksX1_copy_4 : cX1_copy.data.toList.drop 96 = dktX1_copy_4 := dk_seg dksX1_copy_3 24 rfl rfl
theorem dksX1_copy_5 : cX1_copy.data.toList.drop 120 = dktX1_copy_5 := dk_seg dksX1_copy_4 24 rfl rfl
theorem dX1_copy_0 : decode cX1_copy 0 = .ok (.new 10, 3) := dk_187 0 10 (dk_at dksX1_copy_0 0 rfl rfl)
theorem dX1_copy_3 : decode cX1_copy 3 = .ok (.dup, 1) := dk_89 (dk_at dksX1_copy_0 3 rfl rfl)
theorem dX1_copy_4 : decode cX1_copy 4 = .ok (.invokespecial 27, 3) := dk_183 0 27 (dk_at dksX1_copy_0 4 rfl rfl)
theorem dX1_copy_7 : decode cX1_copy 7 = .ok (.astore_n 1, 1) := dk_76 (dk_at dksX1_copy_0 7 rfl rfl)
theorem dX1_copy_8 : decode cX1_copy 8 = .ok (.aload_n 1, 1) := dk_43 (dk_at dksX1_copy_0 8 rfl rfl)
theorem dX1_copy_9 : decode cX1_copy 9 = .ok (.aload_n 0, 1) := dk_42 (dk_at dksX1_copy_0 9 rfl rfl)
theorem dX1_copy_10 : decode cX1_copy 10 = .ok (.getfield 28, 3) := dk_180 0 28 (dk_at dksX1_copy_0 10 rfl rfl)
theorem dX1_copy_13 : decode cX1_copy 13 = .ok (.putfield 28, 3) := dk_181 0 28 (dk_at dksX1_copy_0 13 rfl rfl)
theorem dX1_copy_16 : decode cX1_copy 16 = .ok (.aload_n 1, 1) := dk_43 (dk_at dksX1_copy_0 16 rfl rfl)
theorem dX1_copy_17 : decode cX1_copy 17 = .ok (.aload_n 0, 1) := dk_42 (dk_at dksX1_copy_0 17 rfl rfl)
theorem dX1_copy_18 : decode cX1_copy 18 = .ok (.getfield 32, 3) := dk_180 0 32 (dk_at dksX1_copy_0 18 rfl rfl)
theorem dX1_copy_21 : decode cX1_copy 21 = .ok (.putfield 32, 3) := dk_181 0 32 (dk_at dksX1_copy_0 21 rfl rfl)
theorem dX1_copy_24 : decode cX1_copy 24 = .ok (.aload_n 1, 1) := dk_43 (dk_at dksX1_copy_1 0 rfl rfl)
theorem dX1_copy_25 : decode cX1_copy 25 = .ok (.aload_n 0, 1) := dk_42 (dk_at dksX1_copy_1 1 rfl rfl)
theorem dX1_copy_26 : decode cX1_copy 26 = .ok (.getfield 35, 3) := dk_180 0 35 (dk_at dksX1_copy_1 2 rfl rfl)
theorem dX1_copy_29 : decode cX1_copy 29 = .ok (.putfield 35, 3) := dk_181 0 35 (dk_at dksX1_copy_1 5 rfl rfl)
theorem dX1_copy_32 : decode cX1_copy 32 = .ok (.aload_n 1, 1) := dk_43 (dk_at dksX1_copy_1 8 rfl rfl)
theorem dX1_copy_33 : decode cX1_copy 33 = .ok (.aload_n 0, 1) := dk_42 (dk_at dksX1_copy_1 9 rfl rfl)
theorem dX1_copy_34 : decode cX1_copy 34 = .ok (.getfield 38, 3) := dk_180 0 38 (dk_at dksX1_copy_1 10 rfl rfl)
theorem dX1_copy_37 : decode cX1_copy 37 = .ok (.putfield 38, 3) := dk_181 0 38 (dk_at dksX1_copy_1 13 rfl rfl)
theorem dX1_copy_40 : decode cX1_copy 40 = .ok (.aload_n 1, 1) := dk_43 (dk_at dksX1_copy_1 16 rfl rfl)
theorem dX1_copy_41 : decode cX1_copy 41 = .ok (.aload_n 0, 1) := dk_42 (dk_at dksX1_copy_1 17 rfl rfl)
theorem dX1_copy_42 : decode cX1_copy 42 = .ok (.getfield 41, 3) := dk_180 0 41 (dk_at dksX1_copy_1 18 rfl rfl)
theorem dX1_copy_45 : decode cX1_copy 45 = .ok (.putfield 41, 3) := dk_181 0 41 (dk_at dksX1_copy_1 21 rfl rfl)
theorem dX1_copy_48 : decode cX1_copy 48 = .ok (.aload_n 1, 1) := dk_43 (dk_at dksX1_copy_2 0 rfl rfl)
theorem dX1_copy_49 : decode cX1_copy 49 = .ok (.aload_n 0, 1) := dk_42 (dk_at dksX1_copy_2 1 rfl rfl)
theorem dX1_copy_50 : decode cX1_copy 50 = .ok (.getfield 44, 3) := dk_180 0 44 (dk_at dksX1_copy_2 2 rfl rfl)
theorem dX1_copy_53 : decode cX1_copy 53 = .ok (.putfield 44, 3) := dk_181 0 44 (dk_at dksX1_copy_2 5 rfl rfl)
theorem dX1_copy_56 : decode cX1_copy 56 = .ok (.aload_n 0, 1) := dk_42 (dk_at dksX1_copy_2 8 rfl rfl)
theorem dX1_copy_57 : decode cX1_copy 57 = .ok (.getfield 9, 3) := dk_180 0 9 (dk_at dksX1_copy_2 9 rfl rfl)
theorem dX1_copy_60 : decode cX1_copy 60 = .ok (.iconst 0, 1) := dk_3 (dk_at dksX1_copy_2 12 rfl rfl)
theorem dX1_copy_61 : decode cX1_copy 61 = .ok (.aload_n 1, 1) := dk_43 (dk_at dksX1_copy_2 13 rfl rfl)
theorem dX1_copy_62 : decode cX1_copy 62 = .ok (.getfield 9, 3) := dk_180 0 9 (dk_at dksX1_copy_2 14 rfl rfl)
theorem dX1_copy_65 : decode cX1_copy 65 = .ok (.iconst 0, 1) := dk_3 (dk_at dksX1_copy_2 17 rfl rfl)
theorem dX1_copy_66 : decode cX1_copy 66 = .ok (.bipush 8, 2) := dk_16 8 (dk_at dksX1_copy_2 18 rfl rfl)
theorem dX1_copy_68 : decode cX1_copy 68 = .ok (.invokestatic 47, 3) := dk_184 0 47 (dk_at dksX1_copy_2 20 rfl rfl)
theorem dX1_copy_71 : decode cX1_copy 71 = .ok (.aload_n 0, 1) := dk_42 (dk_at dksX1_copy_2 23 rfl rfl)
theorem dX1_copy_72 : decode cX1_copy 72 = .ok (.getfield 15, 3) := dk_180 0 15 (dk_at dksX1_copy_3 0 rfl rfl)
theorem dX1_copy_75 : decode cX1_copy 75 = .ok (.iconst 0, 1) := dk_3 (dk_at dksX1_copy_3 3 rfl rfl)
theorem dX1_copy_76 : decode cX1_copy 76 = .ok (.aload_n 1, 1) := dk_43 (dk_at dksX1_copy_3 4 rfl rfl)
theorem dX1_copy_77 : decode cX1_copy 77 = .ok (.getfield 15, 3) := dk_180 0 15 (dk_at dksX1_copy_3 5 rfl rfl)
theorem dX1_copy_80 : decode cX1_copy 80 = .ok (.iconst 0, 1) := dk_3 (dk_at dksX1_copy_3 8 rfl rfl)
theorem dX1_copy_81 : decode cX1_copy 81 = .ok (.bipush 8, 2) := dk_16 8 (dk_at dksX1_copy_3 9 rfl rfl)
theorem dX1_copy_83 : decode cX1_copy 83 = .ok (.invokestatic 47, 3) := dk_184 0 47 (dk_at dksX1_copy_3 11 rfl rfl)
theorem dX1_copy_86 : decode cX1_copy 86 = .ok (.aload_n 0, 1) := dk_42 (dk_at dksX1_copy_3 14 rfl rfl)
theorem dX1_copy_87 : decode cX1_copy 87 = .ok (.getfield 18, 3) := dk_180 0 18 (dk_at dksX1_copy_3 15 rfl rfl)
theorem dX1_copy_90 : decode cX1_copy 90 = .ok (.iconst 0, 1) := dk_3 (dk_at dksX1_copy_3 18 rfl rfl)
theorem dX1_copy_91 : decode cX1_copy 91 = .ok (.aload_n 1, 1) := dk_43 (dk_at dksX1_copy_3 19 rfl rfl)
theorem dX1_copy_92 : decode cX1_copy 92 = .ok (.getfield 18, 3) := dk_180 0 18 (dk_at dksX1_copy_3 20 rfl rfl)
theorem dX1_copy_95 : decode cX1_copy 95 = .ok (.iconst 0, 1) := dk_3 (dk_at dksX1_copy_3 23 rfl rfl)
theorem dX1_copy_96 : decode cX1_copy 96 = .ok (.bipush 8, 2) := dk_16 8 (dk_at dksX1_copy_4 0 rfl rfl)
theorem dX1_copy_98 : decode cX1_copy 98 = .ok (.invokestatic 47, 3) := dk_184 0 47 (dk_at dksX1_copy_4 2 rfl rfl)
theorem dX1_copy_101 : decode cX1_copy 101 = .ok (.aload_n 0, 1) := dk_42 (dk_at dksX1_copy_4 5 rfl rfl)
theorem dX1_copy_102 : decode cX1_copy 102 = .ok (.getfield 21, 3) := dk_180 0 21 (dk_at dksX1_copy_4 6 rfl rfl)
theorem dX1_copy_105 : decode cX1_copy 105 = .ok (.iconst 0, 1) := dk_3 (dk_at dksX1_copy_4 9 rfl rfl)
theorem dX1_copy_106 : decode cX1_copy 106 = .ok (.aload_n 1, 1) := dk_43 (dk_at dksX1_copy_4 10 rfl rfl)
theorem dX1_copy_107 : decode cX1_copy 107 = .ok (.getfield 21, 3) := dk_180 0 21 (dk_at dksX1_copy_4 11 rfl rfl)
theorem dX1_copy_110 : decode cX1_copy 110 = .ok (.iconst 0, 1) := dk_3 (dk_at dksX1_copy_4 14 rfl rfl)
theorem dX1_copy_111 : decode cX1_copy 111 = .ok (.bipush 8, 2) := dk_16 8 (dk_at dksX1_copy_4 15 rfl rfl)
theorem dX1_copy_113 : decode cX1_copy 113 = .ok (.invokestatic 47, 3) := dk_184 0 47 (dk_at dksX1_copy_4 17 rfl rfl)
theorem dX1_copy_116 : decode cX1_copy 116 = .ok (.aload_n 0, 1) := dk_42 (dk_at dksX1_copy_4 20 rfl rfl)
theorem dX1_copy_117 : decode cX1_copy 117 = .ok (.getfield 24, 3) := dk_180 0 24 (dk_at dksX1_copy_4 21 rfl rfl)
theorem dX1_copy_120 : decode cX1_copy 120 = .ok (.iconst 0, 1) := dk_3 (dk_at dksX1_copy_5 0 rfl rfl)
theorem dX1_copy_121 : decode cX1_copy 121 = .ok (.aload_n 1, 1) := dk_43 (dk_at dksX1_copy_5 1 rfl rfl)
theorem dX1_copy_122 : decode cX1_copy 122 = .ok (.getfield 24, 3) := dk_180 0 24 (dk_at dksX1_copy_5 2 rfl rfl)
theorem dX1_copy_125 : decode cX1_copy 125 = .ok (.iconst 0, 1) := dk_3 (dk_at dksX1_copy_5 5 rfl rfl)
theorem dX1_copy_126 : decode cX1_copy 126 = .ok (.bipush 40, 2) := dk_16 40 (dk_at dksX1_copy_5 6 rfl rfl)
theorem dX1_copy_128 : decode cX1_copy 128 = .ok (.invokestatic 47, 3) := dk_184 0 47 (dk_at dksX1_copy_5 8 rfl rfl)
theorem dX1_copy_131 : decode cX1_copy 131 = .ok (.aload_n 1, 1) := dk_43 (dk_at dksX1_copy_5 11 rfl rfl)
theorem dX1_copy_132 : decode cX1_copy 132 = .ok (.areturn, 1) := dk_176 (dk_at dksX1_copy_5 12 rfl rfl)
theorem q137 : (Jvm.Cond.initialized "CardHolder$City") ∈ lw_all := lw_g (lw_at lw_m1 2 rfl) rfl
theorem q180 : (Jvm.Cond.instantiable "CardHolder$City" (11 : Nat)) ∈ lw_all := lw_g (lw_at lw_m1 45 rfl) rfl
theorem q182 : (Jvm.Cond.instanceMethod ({ cls := "CardHolder$City", name := "<init>", desc := "()V" } : Jvm.MethodName)) ∈ lw_all := lw_g (lw_at lw_m1 47 rfl) rfl
theorem q183 : (Jvm.Cond.code ({ cls := "CardHolder$City", name := "<init>", desc := "()V" } : Jvm.MethodName) prog_4_method_1_code (1 : Nat) (Option.none : Option Jvm.ClassFile.FieldType)) ∈ lw_all := lw_g (lw_at lw_m1 48 rfl) rfl
theorem q184 : (Jvm.Cond.methodLink "CardHolder$City" (3 : Nat) ({ cls := "java/lang/Object", name := "<init>", desc := "()V" } : Jvm.MethodName)) ∈ lw_all := lw_g (lw_at lw_m1 49 rfl) rfl
theorem q185 : (Jvm.Cond.fieldLink "CardHolder$City" (28 : Nat) "CardHolder$City" "wear" "I") ∈ lw_all := lw_g (lw_at lw_m1 50 rfl) rfl
theorem q188 : (Jvm.Cond.fieldLink "CardHolder$City" (32 : Nat) "CardHolder$City" "lines" "I") ∈ lw_all := lw_g (lw_at lw_m1 53 rfl) rfl
theorem q192 : (Jvm.Cond.fieldLink "CardHolder$City" (35 : Nat) "CardHolder$City" "persons" "I") ∈ lw_all := lw_g (lw_at lw_m1 57 rfl) rfl
theorem q195 : (Jvm.Cond.fieldLink "CardHolder$City" (38 : Nat) "CardHolder$City" "acts" "I") ∈ lw_all := lw_g (lw_at lw_m1 60 rfl) rfl
theorem q197 : (Jvm.Cond.fieldLink "CardHolder$City" (41 : Nat) "CardHolder$City" "forged" "I") ∈ lw_all := lw_g (lw_at lw_m1 62 rfl) rfl
theorem q200 : (Jvm.Cond.fieldLink "CardHolder$City" (44 : Nat) "CardHolder$City" "told" "I") ∈ lw_all := lw_g (lw_at lw_m1 65 rfl) rfl
theorem q202 : (Jvm.Cond.fieldLink "CardHolder$City" (9 : Nat) "CardHolder$City" "worth" "[I") ∈ lw_all := lw_g (lw_at lw_m1 67 rfl) rfl
theorem q205 : (Jvm.Cond.fieldLink "CardHolder$City" (15 : Nat) "CardHolder$City" "does" "[I") ∈ lw_all := lw_g (lw_at lw_m1 70 rfl) rfl
theorem q208 : (Jvm.Cond.fieldLink "CardHolder$City" (18 : Nat) "CardHolder$City" "wishes" "[I") ∈ lw_all := lw_g (lw_at lw_m1 73 rfl) rfl
theorem q211 : (Jvm.Cond.fieldLink "CardHolder$City" (21 : Nat) "CardHolder$City" "holder" "[I") ∈ lw_all := lw_g (lw_at lw_m1 76 rfl) rfl
theorem q214 : (Jvm.Cond.fieldLink "CardHolder$City" (24 : Nat) "CardHolder$City" "act" "[I") ∈ lw_all := lw_g (lw_at lw_m1 79 rfl) rfl
theorem q216 : (Jvm.Cond.lays "CardHolder$City" "CardHolder$City" "wear" "I") ∈ lw_all := lw_g (lw_at lw_m1 81 rfl) rfl
theorem q217 : (Jvm.Cond.soleField "CardHolder$City" "wear") ∈ lw_all := lw_g (lw_at lw_m1 82 rfl) rfl
theorem q218 : (Jvm.Cond.lays "CardHolder$City" "CardHolder$City" "lines" "I") ∈ lw_all := lw_g (lw_at lw_m1 83 rfl) rfl
theorem q219 : (Jvm.Cond.soleField "CardHolder$City" "lines") ∈ lw_all := lw_g (lw_at lw_m1 84 rfl) rfl
theorem q220 : (Jvm.Cond.lays "CardHolder$City" "CardHolder$City" "persons" "I") ∈ lw_all := lw_g (lw_at lw_m1 85 rfl) rfl
theorem q221 : (Jvm.Cond.soleField "CardHolder$City" "persons") ∈ lw_all := lw_g (lw_at lw_m1 86 rfl) rfl
theorem q222 : (Jvm.Cond.lays "CardHolder$City" "CardHolder$City" "acts" "I") ∈ lw_all := lw_g (lw_at lw_m1 87 rfl) rfl
theorem q223 : (Jvm.Cond.soleField "CardHolder$City" "acts") ∈ lw_all := lw_g (lw_at lw_m1 88 rfl) rfl
theorem q224 : (Jvm.Cond.lays "CardHolder$City" "CardHolder$City" "forged" "I") ∈ lw_all := lw_g (lw_at lw_m1 89 rfl) rfl
theorem q225 : (Jvm.Cond.soleField "CardHolder$City" "forged") ∈ lw_all := lw_g (lw_at lw_m1 90 rfl) rfl
theorem q226 : (Jvm.Cond.lays "CardHolder$City" "CardHolder$City" "told" "I") ∈ lw_all := lw_g (lw_at lw_m1 91 rfl) rfl
theorem q227 : (Jvm.Cond.soleField "CardHolder$City" "told") ∈ lw_all := lw_g (lw_at lw_m1 92 rfl) rfl
theorem q228 : (Jvm.Cond.laysFinal "CardHolder$City" "CardHolder$City" "worth" "[I") ∈ lw_all := lw_g (lw_at lw_m1 93 rfl) rfl
theorem q229 : (Jvm.Cond.soleField "CardHolder$City" "worth") ∈ lw_all := lw_g (lw_at lw_m1 94 rfl) rfl
theorem q230 : (Jvm.Cond.laysFinal "CardHolder$City" "CardHolder$City" "does" "[I") ∈ lw_all := lw_g (lw_at lw_m1 95 rfl) rfl
theorem q231 : (Jvm.Cond.soleField "CardHolder$City" "does") ∈ lw_all := lw_g (lw_at lw_m1 96 rfl) rfl
theorem q232 : (Jvm.Cond.laysFinal "CardHolder$City" "CardHolder$City" "wishes" "[I") ∈ lw_all := lw_g (lw_at lw_m1 97 rfl) rfl
theorem q233 : (Jvm.Cond.soleField "CardHolder$City" "wishes") ∈ lw_all := lw_g (lw_at lw_m1 98 rfl) rfl
theorem q234 : (Jvm.Cond.laysFinal "CardHolder$City" "CardHolder$City" "holder" "[I") ∈ lw_all := lw_g (lw_at lw_m1 99 rfl) rfl
theorem q235 : (Jvm.Cond.soleField "CardHolder$City" "holder") ∈ lw_all := lw_g (lw_at lw_m1 100 rfl) rfl
theorem q236 : (Jvm.Cond.laysFinal "CardHolder$City" "CardHolder$City" "act" "[I") ∈ lw_all := lw_g (lw_at lw_m1 101 rfl) rfl
theorem q237 : (Jvm.Cond.soleField "CardHolder$City" "act") ∈ lw_all := lw_g (lw_at lw_m1 102 rfl) rfl
theorem q238 : (Jvm.Cond.superclass "CardHolder$City" "java/lang/Object") ∈ lw_all := lw_g (lw_at lw_m1 103 rfl) rfl
theorem q713 : (Jvm.Cond.selects "CardHolder$City" ({ cls := "java/lang/Object", name := "getClass", desc := "()Ljava/lang/Class;" } : Jvm.MethodName) ({ cls := "java/lang/Object", name := "getClass", desc := "()Ljava/lang/Class;" } : Jvm.MethodName)) ∈ lw_all := lw_g (lw_at lw_m3 98 rfl) rfl
theorem q1291 : (Jvm.Cond.instanceMethod ({ cls := "CardHolder$City", name := "copy", desc := "()LCardHolder$City;" } : Jvm.MethodName)) ∈ lw_all := lw_g (lw_at lw_m5 196 rfl) rfl
theorem q1292 : (Jvm.Cond.selects "CardHolder$City" ({ cls := "CardHolder$City", name := "copy", desc := "()LCardHolder$City;" } : Jvm.MethodName) ({ cls := "CardHolder$City", name := "copy", desc := "()LCardHolder$City;" } : Jvm.MethodName)) ∈ lw_all := lw_g (lw_at lw_m5 197 rfl) rfl
theorem q1293 : (Jvm.Cond.code ({ cls := "CardHolder$City", name := "copy", desc := "()LCardHolder$City;" } : Jvm.MethodName) prog_4_method_2_code (2 : Nat) (Option.some (Jvm.ClassFile.FieldType.object "CardHolder$City"))) ∈ lw_all := lw_g (lw_at lw_m5 198 rfl) rfl
theorem q1294 : (Jvm.Cond.classLink "CardHolder$City" (10 : Nat) "CardHolder$City") ∈ lw_all := lw_g (lw_at lw_m5 199 rfl) rfl
theorem q1295 : (Jvm.Cond.methodLink "CardHolder$City" (27 : Nat) ({ cls := "CardHolder$City", name := "<init>", desc := "()V" } : Jvm.MethodName)) ∈ lw_all := lw_g (lw_at lw_m5 200 rfl) rfl
theorem q1296 : (Jvm.Cond.methodLink "CardHolder$City" (47 : Nat) ({ cls := "java/lang/System", name := "arraycopy", desc := "(Ljava/lang/Object;ILjava/lang/Object;II)V" } : Jvm.MethodName)) ∈ lw_all := lw_g (lw_at lw_m5 201 rfl) rfl
theorem q2091 : (Jvm.Cond.castable "CardHolder$City" "java/lang/Object") ∈ lw_tbl := lw_at lw_m9 36 rfl
theorem in_X1 : ∀ w ∈ wsX10, w ∈ lw_all := lw_in wsX10 [216, 218, 220, 222, 224, 226, 228, 230, 232, 234, 236] (by decide +kernel) (by decide +kernel)

/-! CardHolder$Steal -/
set_option maxRecDepth 100000
def RX10 : String := "CardHolder$Steal"
def TX10 : u_T := fun k => match k with
  | _ => ("CardHolder$Steal", "this$0", "LCardHolder;", true)
def tyX10 : Nat → FieldType := fun k => match k with
  | _ => .object "CardHolder"
abbrev wsX100 : List Cond := u_ws RX10 TX10 1
theorem nmX10 : ∀ a, a < 1 → ∀ b, b < 1 → a ≠ b → (TX10 a).2.1 ≠ (TX10 b).2.1 := by decide +kernel
theorem tyX10_ok : ∀ k, k < 1 → parseFieldDescriptor (TX10 k).2.2.1 = some (tyX10 k) := by decide +kernel
abbrev cX10_init : ByteArray := prog_10_method_1_code
def yX10_init : MethodName := ⟨RX10, "<init>", "(LCardHolder;)V"⟩
def dkwX10_init_0 : List UInt8 := [42, 43, 181, 0, 1, 42, 183, 0, 7, 177]
abbrev dktX10_init_0 : List UInt8 := dkwX10_init_0 ++ []
theorem dksX10_init_0 : cX10_init.data.toList.drop 0 = dktX10_init_0 := by decide +kernel
theorem dX10_init_0 : decode cX10_init 0 = .ok (.aload_n 0, 1) := dk_42 (dk_at dksX10_init_0 0 rfl rfl)
theorem dX10_init_1 : decode cX10_init 1 = .ok (.aload_n 1, 1) := dk_43 (dk_at dksX10_init_0 1 rfl rfl)
theorem dX10_init_2 : decode cX10_init 2 = .ok (.putfield 1, 3) := dk_181 0 1 (dk_at dksX10_init_0 2 rfl rfl)
theorem dX10_init_5 : decode cX10_init 5 = .ok (.aload_n 0, 1) := dk_42 (dk_at dksX10_init_0 5 rfl rfl)
theorem dX10_init_6 : decode cX10_init 6 = .ok (.invokespecial 7, 3) := dk_183 0 7 (dk_at dksX10_init_0 6 rfl rfl)
theorem dX10_init_9 : decode cX10_init 9 = .ok (.return_, 1) := dk_177 (dk_at dksX10_init_0 9 rfl rfl)
abbrev cX10_does : ByteArray := prog_10_method_2_code
def yX10_does : MethodName := ⟨RX10, "does", "(IIII)V"⟩
def dkwX10_does_1 : List UInt8 := [180, 0, 19, 28, 27, 79, 42, 180, 0, 1, 89, 180, 0, 22, 4, 28, 120, 128, 181, 0, 22, 177]
abbrev dktX10_does_1 : List UInt8 := dkwX10_does_1 ++ []
def dkwX10_does_0 : List UInt8 := [42, 180, 0, 1, 180, 0, 13, 28, 42, 180, 0, 1, 180, 0, 19, 28, 46, 79, 42, 180, 0, 1]
abbrev dktX10_does_0 : List UInt8 := dkwX10_does_0 ++ dktX10_does_1
theorem dksX10_does_0 : cX10_does.data.toList.drop 0 = dktX10_does_0 := by decide +kernel
theorem dksX10_does_1 : cX10_does.data.toList.drop 22 = dktX10_does_1 := dk_seg dksX10_does_0 22 rfl rfl
theorem dX10_does_0 : decode cX10_does 0 = .ok (.aload_n 0, 1) := dk_42 (dk_at dksX10_does_0 0 rfl rfl)
theorem dX10_does_1 : decode cX10_does 1 = .ok (.getfield 1, 3) := dk_180 0 1 (dk_at dksX10_does_0 1 rfl rfl)
theorem dX10_does_4 : decode cX10_does 4 = .ok (.getfield 13, 3) := dk_180 0 13 (dk_at dksX10_does_0 4 rfl rfl)
theorem dX10_does_7 : decode cX10_does 7 = .ok (.iload_n 2, 1) := dk_28 (dk_at dksX10_does_0 7 rfl rfl)
theorem dX10_does_8 : decode cX10_does 8 = .ok (.aload_n 0, 1) := dk_42 (dk_at dksX10_does_0 8 rfl rfl)
theorem dX10_does_9 : decode cX10_does 9 = .ok (.getfield 1, 3) := dk_180 0 1 (dk_at dksX10_does_0 9 rfl rfl)
theorem dX10_does_12 : decode cX10_does 12 = .ok (.getfield 19, 3) := dk_180 0 19 (dk_at dksX10_does_0 12 rfl rfl)
theorem dX10_does_15 : decode cX10_does 15 = .ok (.iload_n 2, 1) := dk_28 (dk_at dksX10_does_0 15 rfl rfl)
theorem dX10_does_16 : decode cX10_does 16 = .ok (.iaload, 1) := dk_46 (dk_at dksX10_does_0 16 rfl rfl)
theorem dX10_does_17 : decode cX10_does 17 = .ok (.iastore, 1) := dk_79 (dk_at dksX10_does_0 17 rfl rfl)
theorem dX10_does_18 : decode cX10_does 18 = .ok (.aload_n 0, 1) := dk_42 (dk_at dksX10_does_0 18 rfl rfl)
theorem dX10_does_19 : decode cX10_does 19 = .ok (.getfield 1, 3) := dk_180 0 1 (dk_at dksX10_does_0 19 rfl rfl)
theorem dX10_does_22 : decode cX10_does 22 = .ok (.getfield 19, 3) := dk_180 0 19 (dk_at dksX10_does_1 0 rfl rfl)
theorem dX10_does_25 : decode cX10_does 25 = .ok (.iload_n 2, 1) := dk_28 (dk_at dksX10_does_1 3 rfl rfl)
theorem dX10_does_26 : decode cX10_does 26 = .ok (.iload_n 1, 1) := dk_27 (dk_at dksX10_does_1 4 rfl rfl)
theorem dX10_does_27 : decode cX10_does 27 = .ok (.iastore, 1) := dk_79 (dk_at dksX10_does_1 5 rfl rfl)
theorem dX10_does_28 : decode cX10_does 28 = .ok (.aload_n 0, 1) := dk_42 (dk_at dksX10_does_1 6 rfl rfl)
theorem dX10_does_29 : decode cX10_does 29 = .ok (.getfield 1, 3) := dk_180 0 1 (dk_at dksX10_does_1 7 rfl rfl)
theorem dX10_does_32 : decode cX10_does 32 = .ok (.dup, 1) := dk_89 (dk_at dksX10_does_1 10 rfl rfl)
theorem dX10_does_33 : decode cX10_does 33 = .ok (.getfield 22, 3) := dk_180 0 22 (dk_at dksX10_does_1 11 rfl rfl)
theorem dX10_does_36 : decode cX10_does 36 = .ok (.iconst 1, 1) := dk_4 (dk_at dksX10_does_1 14 rfl rfl)
theorem dX10_does_37 : decode cX10_does 37 = .ok (.iload_n 2, 1) := dk_28 (dk_at dksX10_does_1 15 rfl rfl)
theorem dX10_does_38 : decode cX10_does 38 = .ok (.ishl, 1) := dk_120 (dk_at dksX10_does_1 16 rfl rfl)
theorem dX10_does_39 : decode cX10_does 39 = .ok (.ior, 1) := dk_128 (dk_at dksX10_does_1 17 rfl rfl)
theorem dX10_does_40 : decode cX10_does 40 = .ok (.putfield 22, 3) := dk_181 0 22 (dk_at dksX10_does_1 18 rfl rfl)
theorem dX10_does_43 : decode cX10_does 43 = .ok (.return_, 1) := dk_177 (dk_at dksX10_does_1 21 rfl rfl)
theorem q161 : (Jvm.Cond.initialized "CardHolder$Steal") ∈ lw_all := lw_g (lw_at lw_m1 26 rfl) rfl
theorem q293 : (Jvm.Cond.fieldLinkNest "CardHolder$Steal" (22 : Nat) "CardHolder" "stolen" "I" "CardHolder") ∈ lw_tbl := lw_at lw_m1 158 rfl
theorem q300 : (Jvm.Cond.fieldLinkNest "CardHolder$Steal" (19 : Nat) "CardHolder" "holder" "[I" "CardHolder") ∈ lw_tbl := lw_at lw_m1 165 rfl
theorem q306 : (Jvm.Cond.fieldLinkNest "CardHolder$Steal" (13 : Nat) "CardHolder" "had" "[I" "CardHolder") ∈ lw_tbl := lw_at lw_m1 171 rfl
theorem q719 : (Jvm.Cond.selects "CardHolder$Steal" ({ cls := "java/lang/Object", name := "getClass", desc := "()Ljava/lang/Class;" } : Jvm.MethodName) ({ cls := "java/lang/Object", name := "getClass", desc := "()Ljava/lang/Class;" } : Jvm.MethodName)) ∈ lw_all := lw_g (lw_at lw_m3 104 rfl) rfl
theorem q761 : (Jvm.Cond.instantiable "CardHolder$Steal" (1 : Nat)) ∈ lw_all := lw_g (lw_at lw_m3 146 rfl) rfl
theorem q763 : (Jvm.Cond.instanceMethod ({ cls := "CardHolder$Steal", name := "<init>", desc := "(LCardHolder;)V" } : Jvm.MethodName)) ∈ lw_all := lw_g (lw_at lw_m3 148 rfl) rfl
theorem q764 : (Jvm.Cond.code ({ cls := "CardHolder$Steal", name := "<init>", desc := "(LCardHolder;)V" } : Jvm.MethodName) prog_10_method_1_code (2 : Nat) (Option.none : Option Jvm.ClassFile.FieldType)) ∈ lw_all := lw_g (lw_at lw_m3 149 rfl) rfl
theorem q765 : (Jvm.Cond.methodLinkNest "CardHolder$Steal" (7 : Nat) ({ cls := "CardHolder$Act", name := "<init>", desc := "()V" } : Jvm.MethodName) "CardHolder") ∈ lw_tbl := lw_at lw_m3 150 rfl
theorem q766 : (Jvm.Cond.fieldLink "CardHolder$Steal" (1 : Nat) "CardHolder$Steal" "this$0" "LCardHolder;") ∈ lw_all := lw_g (lw_at lw_m3 151 rfl) rfl
theorem q767 : (Jvm.Cond.laysFinal "CardHolder$Steal" "CardHolder$Steal" "this$0" "LCardHolder;") ∈ lw_all := lw_g (lw_at lw_m3 152 rfl) rfl
theorem q768 : (Jvm.Cond.soleField "CardHolder$Steal" "this$0") ∈ lw_all := lw_g (lw_at lw_m3 153 rfl) rfl
theorem q769 : (Jvm.Cond.superclass "CardHolder$Steal" "CardHolder$Act") ∈ lw_all := lw_g (lw_at lw_m3 154 rfl) rfl
theorem q812 : (Jvm.Cond.selects "CardHolder$Steal" ({ cls := "CardHolder$Act", name := "does", desc := "(IIII)V" } : Jvm.MethodName) ({ cls := "CardHolder$Steal", name := "does", desc := "(IIII)V" } : Jvm.MethodName)) ∈ lw_all := lw_g (lw_at lw_m3 197 rfl) rfl
theorem q813 : (Jvm.Cond.instanceMethod ({ cls := "CardHolder$Steal", name := "does", desc := "(IIII)V" } : Jvm.MethodName)) ∈ lw_all := lw_g (lw_at lw_m3 198 rfl) rfl
theorem q814 : (Jvm.Cond.code ({ cls := "CardHolder$Steal", name := "does", desc := "(IIII)V" } : Jvm.MethodName) prog_10_method_2_code (5 : Nat) (Option.none : Option Jvm.ClassFile.FieldType)) ∈ lw_all := lw_g (lw_at lw_m3 199 rfl) rfl
theorem q2087 : (Jvm.Cond.castable "CardHolder$Steal" "CardHolder$Act") ∈ lw_tbl := lw_at lw_m9 32 rfl
theorem q2100 : (Jvm.Cond.castable "CardHolder$Steal" "java/lang/Object") ∈ lw_tbl := lw_at lw_m9 45 rfl
theorem in_X10 : ∀ w ∈ wsX100, w ∈ lw_all := lw_in wsX100 [767] (by decide +kernel) (by decide +kernel)

/-! CardHolder$Day -/
set_option maxRecDepth 100000
def RX11 : String := "CardHolder$Day"
def TX11 : u_T := fun k => match k with
  | _ => ("CardHolder$Day", "this$0", "LCardHolder;", true)
def tyX11 : Nat → FieldType := fun k => match k with
  | _ => .object "CardHolder"
abbrev wsX110 : List Cond := u_ws RX11 TX11 1
theorem nmX11 : ∀ a, a < 1 → ∀ b, b < 1 → a ≠ b → (TX11 a).2.1 ≠ (TX11 b).2.1 := by decide +kernel
theorem tyX11_ok : ∀ k, k < 1 → parseFieldDescriptor (TX11 k).2.2.1 = some (tyX11 k) := by decide +kernel
abbrev cX11_init : ByteArray := prog_5_method_1_code
def yX11_init : MethodName := ⟨RX11, "<init>", "(LCardHolder;)V"⟩
def dkwX11_init_0 : List UInt8 := [42, 43, 181, 0, 3, 42, 183, 0, 9, 177]
abbrev dktX11_init_0 : List UInt8 := dkwX11_init_0 ++ []
theorem dksX11_init_0 : cX11_init.data.toList.drop 0 = dktX11_init_0 := by decide +kernel
theorem dX11_init_0 : decode cX11_init 0 = .ok (.aload_n 0, 1) := dk_42 (dk_at dksX11_init_0 0 rfl rfl)
theorem dX11_init_1 : decode cX11_init 1 = .ok (.aload_n 1, 1) := dk_43 (dk_at dksX11_init_0 1 rfl rfl)
theorem dX11_init_2 : decode cX11_init 2 = .ok (.putfield 3, 3) := dk_181 0 3 (dk_at dksX11_init_0 2 rfl rfl)
theorem dX11_init_5 : decode cX11_init 5 = .ok (.aload_n 0, 1) := dk_42 (dk_at dksX11_init_0 5 rfl rfl)
theorem dX11_init_6 : decode cX11_init 6 = .ok (.invokespecial 9, 3) := dk_183 0 9 (dk_at dksX11_init_0 6 rfl rfl)
theorem dX11_init_9 : decode cX11_init 9 = .ok (.return_, 1) := dk_177 (dk_at dksX11_init_0 9 rfl rfl)
abbrev cX11_does : ByteArray := prog_5_method_2_code
def yX11_does : MethodName := ⟨RX11, "does", "(IIII)V"⟩
def dkwX11_does_4 : List UInt8 := [180, 0, 3, 89, 180, 0, 42, 4, 96, 181, 0, 42, 177]
abbrev dktX11_does_4 : List UInt8 := dkwX11_does_4 ++ []
def dkwX11_does_3 : List UInt8 := [132, 5, 1, 167, 255, 189, 42, 180, 0, 3, 3, 181, 0, 25, 42, 180, 0, 3, 3, 181, 0, 39, 42]
abbrev dktX11_does_3 : List UInt8 := dkwX11_does_3 ++ dktX11_does_4
def dkwX11_does_2 : List UInt8 := [159, 0, 23, 42, 180, 0, 3, 180, 0, 32, 21, 5, 42, 180, 0, 3, 180, 0, 36, 21, 5, 46, 79]
abbrev dktX11_does_2 : List UInt8 := dkwX11_does_2 ++ dktX11_does_3
def dkwX11_does_1 : List UInt8 := [180, 0, 25, 21, 5, 184, 0, 28, 153, 0, 37, 42, 180, 0, 3, 180, 0, 32, 21, 5, 46, 2]
abbrev dktX11_does_1 : List UInt8 := dkwX11_does_1 ++ dktX11_does_2
def dkwX11_does_0 : List UInt8 := [3, 54, 5, 21, 5, 42, 180, 0, 3, 180, 0, 15, 180, 0, 19, 162, 0, 58, 42, 180, 0, 3]
abbrev dktX11_does_0 : List UInt8 := dkwX11_does_0 ++ dktX11_does_1
theorem dksX11_does_0 : cX11_does.data.toList.drop 0 = dktX11_does_0 := by decide +kernel
theorem dksX11_does_1 : cX11_does.data.toList.drop 22 = dktX11_does_1 := dk_seg dksX11_does_0 22 rfl rfl
theorem dksX11_does_2 : cX11_does.data.toList.drop 44 = dktX11_does_2 := dk_seg dksX11_does_1 22 rfl rfl
theorem dksX11_does_3 : cX11_does.data.toList.drop 67 = dktX11_does_3 := dk_seg dksX11_does_2 23 rfl rfl
theorem dksX11_does_4 : cX11_does.data.toList.drop 90 = dktX11_does_4 := dk_seg dksX11_does_3 23 rfl rfl
theorem dX11_does_0 : decode cX11_does 0 = .ok (.iconst 0, 1) := dk_3 (dk_at dksX11_does_0 0 rfl rfl)
theorem dX11_does_1 : decode cX11_does 1 = .ok (.istore 5, 2) := dk_54 5 (dk_at dksX11_does_0 1 rfl rfl)
theorem dX11_does_3 : decode cX11_does 3 = .ok (.iload 5, 2) := dk_21 5 (dk_at dksX11_does_0 3 rfl rfl)
theorem dX11_does_5 : decode cX11_does 5 = .ok (.aload_n 0, 1) := dk_42 (dk_at dksX11_does_0 5 rfl rfl)
theorem dX11_does_6 : decode cX11_does 6 = .ok (.getfield 3, 3) := dk_180 0 3 (dk_at dksX11_does_0 6 rfl rfl)
theorem dX11_does_9 : decode cX11_does 9 = .ok (.getfield 15, 3) := dk_180 0 15 (dk_at dksX11_does_0 9 rfl rfl)
theorem dX11_does_12 : decode cX11_does 12 = .ok (.getfield 19, 3) := dk_180 0 19 (dk_at dksX11_does_0 12 rfl rfl)
theorem dX11_does_15 : decode cX11_does 15 = .ok (.if_icmp .ge 58, 3) := dk_162 0 58 (dk_at dksX11_does_0 15 rfl rfl)
theorem dX11_does_18 : decode cX11_does 18 = .ok (.aload_n 0, 1) := dk_42 (dk_at dksX11_does_0 18 rfl rfl)
theorem dX11_does_19 : decode cX11_does 19 = .ok (.getfield 3, 3) := dk_180 0 3 (dk_at dksX11_does_0 19 rfl rfl)
theorem dX11_does_22 : decode cX11_does 22 = .ok (.getfield 25, 3) := dk_180 0 25 (dk_at dksX11_does_1 0 rfl rfl)
theorem dX11_does_25 : decode cX11_does 25 = .ok (.iload 5, 2) := dk_21 5 (dk_at dksX11_does_1 3 rfl rfl)
theorem dX11_does_27 : decode cX11_does 27 = .ok (.invokestatic 28, 3) := dk_184 0 28 (dk_at dksX11_does_1 5 rfl rfl)
theorem dX11_does_30 : decode cX11_does 30 = .ok (.ifCond .eq 37, 3) := dk_153 0 37 (dk_at dksX11_does_1 8 rfl rfl)
theorem dX11_does_33 : decode cX11_does 33 = .ok (.aload_n 0, 1) := dk_42 (dk_at dksX11_does_1 11 rfl rfl)
theorem dX11_does_34 : decode cX11_does 34 = .ok (.getfield 3, 3) := dk_180 0 3 (dk_at dksX11_does_1 12 rfl rfl)
theorem dX11_does_37 : decode cX11_does 37 = .ok (.getfield 32, 3) := dk_180 0 32 (dk_at dksX11_does_1 15 rfl rfl)
theorem dX11_does_40 : decode cX11_does 40 = .ok (.iload 5, 2) := dk_21 5 (dk_at dksX11_does_1 18 rfl rfl)
theorem dX11_does_42 : decode cX11_does 42 = .ok (.iaload, 1) := dk_46 (dk_at dksX11_does_1 20 rfl rfl)
theorem dX11_does_43 : decode cX11_does 43 = .ok (.iconst (-1), 1) := dk_2 (dk_at dksX11_does_1 21 rfl rfl)
theorem dX11_does_44 : decode cX11_does 44 = .ok (.if_icmp .eq 23, 3) := dk_159 0 23 (dk_at dksX11_does_2 0 rfl rfl)
theorem dX11_does_47 : decode cX11_does 47 = .ok (.aload_n 0, 1) := dk_42 (dk_at dksX11_does_2 3 rfl rfl)
theorem dX11_does_48 : decode cX11_does 48 = .ok (.getfield 3, 3) := dk_180 0 3 (dk_at dksX11_does_2 4 rfl rfl)
theorem dX11_does_51 : decode cX11_does 51 = .ok (.getfield 32, 3) := dk_180 0 32 (dk_at dksX11_does_2 7 rfl rfl)
theorem dX11_does_54 : decode cX11_does 54 = .ok (.iload 5, 2) := dk_21 5 (dk_at dksX11_does_2 10 rfl rfl)
theorem dX11_does_56 : decode cX11_does 56 = .ok (.aload_n 0, 1) := dk_42 (dk_at dksX11_does_2 12 rfl rfl)
theorem dX11_does_57 : decode cX11_does 57 = .ok (.getfield 3, 3) := dk_180 0 3 (dk_at dksX11_does_2 13 rfl rfl)
theorem dX11_does_60 : decode cX11_does 60 = .ok (.getfield 36, 3) := dk_180 0 36 (dk_at dksX11_does_2 16 rfl rfl)
theorem dX11_does_63 : decode cX11_does 63 = .ok (.iload 5, 2) := dk_21 5 (dk_at dksX11_does_2 19 rfl rfl)
theorem dX11_does_65 : decode cX11_does 65 = .ok (.iaload, 1) := dk_46 (dk_at dksX11_does_2 21 rfl rfl)
theorem dX11_does_66 : decode cX11_does 66 = .ok (.iastore, 1) := dk_79 (dk_at dksX11_does_2 22 rfl rfl)
theorem dX11_does_67 : decode cX11_does 67 = .ok (.iinc 5 1, 3) := dk_132 5 1 (dk_at dksX11_does_3 0 rfl rfl)
theorem dX11_does_70 : decode cX11_does 70 = .ok (.goto (-67), 3) := dk_167 255 189 (dk_at dksX11_does_3 3 rfl rfl)
theorem dX11_does_73 : decode cX11_does 73 = .ok (.aload_n 0, 1) := dk_42 (dk_at dksX11_does_3 6 rfl rfl)
theorem dX11_does_74 : decode cX11_does 74 = .ok (.getfield 3, 3) := dk_180 0 3 (dk_at dksX11_does_3 7 rfl rfl)
theorem dX11_does_77 : decode cX11_does 77 = .ok (.iconst 0, 1) := dk_3 (dk_at dksX11_does_3 10 rfl rfl)
theorem dX11_does_78 : decode cX11_does 78 = .ok (.putfield 25, 3) := dk_181 0 25 (dk_at dksX11_does_3 11 rfl rfl)
theorem dX11_does_81 : decode cX11_does 81 = .ok (.aload_n 0, 1) := dk_42 (dk_at dksX11_does_3 14 rfl rfl)
theorem dX11_does_82 : decode cX11_does 82 = .ok (.getfield 3, 3) := dk_180 0 3 (dk_at dksX11_does_3 15 rfl rfl)
theorem dX11_does_85 : decode cX11_does 85 = .ok (.iconst 0, 1) := dk_3 (dk_at dksX11_does_3 18 rfl rfl)
theorem dX11_does_86 : decode cX11_does 86 = .ok (.putfield 39, 3) := dk_181 0 39 (dk_at dksX11_does_3 19 rfl rfl)
theorem dX11_does_89 : decode cX11_does 89 = .ok (.aload_n 0, 1) := dk_42 (dk_at dksX11_does_3 22 rfl rfl)
theorem dX11_does_90 : decode cX11_does 90 = .ok (.getfield 3, 3) := dk_180 0 3 (dk_at dksX11_does_4 0 rfl rfl)
theorem dX11_does_93 : decode cX11_does 93 = .ok (.dup, 1) := dk_89 (dk_at dksX11_does_4 3 rfl rfl)
theorem dX11_does_94 : decode cX11_does 94 = .ok (.getfield 42, 3) := dk_180 0 42 (dk_at dksX11_does_4 4 rfl rfl)
theorem dX11_does_97 : decode cX11_does 97 = .ok (.iconst 1, 1) := dk_4 (dk_at dksX11_does_4 7 rfl rfl)
theorem dX11_does_98 : decode cX11_does 98 = .ok (.iadd, 1) := dk_96 (dk_at dksX11_does_4 8 rfl rfl)
theorem dX11_does_99 : decode cX11_does 99 = .ok (.putfield 42, 3) := dk_181 0 42 (dk_at dksX11_does_4 9 rfl rfl)
theorem dX11_does_102 : decode cX11_does 102 = .ok (.return_, 1) := dk_177 (dk_at dksX11_does_4 12 rfl rfl)
theorem q162 : (Jvm.Cond.initialized "CardHolder$Day") ∈ lw_all := lw_g (lw_at lw_m1 27 rfl) rfl
theorem q191 : (Jvm.Cond.fieldLinkNest "CardHolder$Day" (19 : Nat) "CardHolder$City" "persons" "I" "CardHolder") ∈ lw_tbl := lw_at lw_m1 56 rfl
theorem q279 : (Jvm.Cond.fieldLinkNest "CardHolder$Day" (15 : Nat) "CardHolder" "city" "LCardHolder$City;" "CardHolder") ∈ lw_tbl := lw_at lw_m1 144 rfl
theorem q287 : (Jvm.Cond.fieldLinkNest "CardHolder$Day" (42 : Nat) "CardHolder" "day" "I" "CardHolder") ∈ lw_tbl := lw_at lw_m1 152 rfl
theorem q290 : (Jvm.Cond.fieldLinkNest "CardHolder$Day" (39 : Nat) "CardHolder" "askedToday" "I" "CardHolder") ∈ lw_tbl := lw_at lw_m1 155 rfl
theorem q292 : (Jvm.Cond.fieldLinkNest "CardHolder$Day" (25 : Nat) "CardHolder" "stolen" "I" "CardHolder") ∈ lw_tbl := lw_at lw_m1 157 rfl
theorem q301 : (Jvm.Cond.fieldLinkNest "CardHolder$Day" (32 : Nat) "CardHolder" "holder" "[I" "CardHolder") ∈ lw_tbl := lw_at lw_m1 166 rfl
theorem q307 : (Jvm.Cond.fieldLinkNest "CardHolder$Day" (36 : Nat) "CardHolder" "had" "[I" "CardHolder") ∈ lw_tbl := lw_at lw_m1 172 rfl
theorem q714 : (Jvm.Cond.selects "CardHolder$Day" ({ cls := "java/lang/Object", name := "getClass", desc := "()Ljava/lang/Class;" } : Jvm.MethodName) ({ cls := "java/lang/Object", name := "getClass", desc := "()Ljava/lang/Class;" } : Jvm.MethodName)) ∈ lw_all := lw_g (lw_at lw_m3 99 rfl) rfl
theorem q771 : (Jvm.Cond.instantiable "CardHolder$Day" (1 : Nat)) ∈ lw_all := lw_g (lw_at lw_m3 156 rfl) rfl
theorem q773 : (Jvm.Cond.instanceMethod ({ cls := "CardHolder$Day", name := "<init>", desc := "(LCardHolder;)V" } : Jvm.MethodName)) ∈ lw_all := lw_g (lw_at lw_m3 158 rfl) rfl
theorem q774 : (Jvm.Cond.code ({ cls := "CardHolder$Day", name := "<init>", desc := "(LCardHolder;)V" } : Jvm.MethodName) prog_5_method_1_code (2 : Nat) (Option.none : Option Jvm.ClassFile.FieldType)) ∈ lw_all := lw_g (lw_at lw_m3 159 rfl) rfl
theorem q775 : (Jvm.Cond.methodLinkNest "CardHolder$Day" (9 : Nat) ({ cls := "CardHolder$Act", name := "<init>", desc := "()V" } : Jvm.MethodName) "CardHolder") ∈ lw_tbl := lw_at lw_m3 160 rfl
theorem q776 : (Jvm.Cond.fieldLink "CardHolder$Day" (3 : Nat) "CardHolder$Day" "this$0" "LCardHolder;") ∈ lw_all := lw_g (lw_at lw_m3 161 rfl) rfl
theorem q777 : (Jvm.Cond.laysFinal "CardHolder$Day" "CardHolder$Day" "this$0" "LCardHolder;") ∈ lw_all := lw_g (lw_at lw_m3 162 rfl) rfl
theorem q778 : (Jvm.Cond.soleField "CardHolder$Day" "this$0") ∈ lw_all := lw_g (lw_at lw_m3 163 rfl) rfl
theorem q779 : (Jvm.Cond.superclass "CardHolder$Day" "CardHolder$Act") ∈ lw_all := lw_g (lw_at lw_m3 164 rfl) rfl
theorem q804 : (Jvm.Cond.selects "CardHolder$Day" ({ cls := "CardHolder$Act", name := "does", desc := "(IIII)V" } : Jvm.MethodName) ({ cls := "CardHolder$Day", name := "does", desc := "(IIII)V" } : Jvm.MethodName)) ∈ lw_all := lw_g (lw_at lw_m3 189 rfl) rfl
theorem q805 : (Jvm.Cond.instanceMethod ({ cls := "CardHolder$Day", name := "does", desc := "(IIII)V" } : Jvm.MethodName)) ∈ lw_all := lw_g (lw_at lw_m3 190 rfl) rfl
theorem q806 : (Jvm.Cond.code ({ cls := "CardHolder$Day", name := "does", desc := "(IIII)V" } : Jvm.MethodName) prog_5_method_2_code (6 : Nat) (Option.none : Option Jvm.ClassFile.FieldType)) ∈ lw_all := lw_g (lw_at lw_m3 191 rfl) rfl
theorem q807 : (Jvm.Cond.methodLinkNest "CardHolder$Day" (28 : Nat) ({ cls := "CardHolder", name := "isOf", desc := "(II)Z" } : Jvm.MethodName) "CardHolder") ∈ lw_tbl := lw_at lw_m3 192 rfl
theorem q2085 : (Jvm.Cond.castable "CardHolder$Day" "CardHolder$Act") ∈ lw_tbl := lw_at lw_m9 30 rfl
theorem q2101 : (Jvm.Cond.castable "CardHolder$Day" "java/lang/Object") ∈ lw_tbl := lw_at lw_m9 46 rfl
theorem in_X11 : ∀ w ∈ wsX110, w ∈ lw_all := lw_in wsX110 [777] (by decide +kernel) (by decide +kernel)

/-! CardHolder$Slot -/
set_option maxRecDepth 100000
def RX2 : String := "CardHolder$Slot"
def TX2 : u_T := fun k => match k with
  | _ => ("CardHolder$Slot", "row", "Ljava/lang/Object;", false)
def tyX2 : Nat → FieldType := fun k => match k with
  | _ => .object "java/lang/Object"
abbrev wsX20 : List Cond := u_ws RX2 TX2 1
theorem nmX2 : ∀ a, a < 1 → ∀ b, b < 1 → a ≠ b → (TX2 a).2.1 ≠ (TX2 b).2.1 := by decide +kernel
theorem tyX2_ok : ∀ k, k < 1 → parseFieldDescriptor (TX2 k).2.2.1 = some (tyX2 k) := by decide +kernel
abbrev cX2_init : ByteArray := prog_9_method_1_code
def yX2_init : MethodName := ⟨RX2, "<init>", "()V"⟩
theorem dX2_init_0 : decode cX2_init 0 = .ok (.aload_n 0, 1) := by decide +kernel
theorem dX2_init_1 : decode cX2_init 1 = .ok (.invokespecial 1, 3) := by decide +kernel
theorem dX2_init_4 : decode cX2_init 4 = .ok (.return_, 1) := by decide +kernel
abbrev cX2_size : ByteArray := prog_9_method_3_code
def yX2_size : MethodName := ⟨RX2, "size", "()I"⟩
def dkwX2_size_3 : List UInt8 := [190, 172]
abbrev dktX2_size_3 : List UInt8 := dkwX2_size_3 ++ []
def dkwX2_size_2 : List UInt8 := [193, 0, 17, 153, 0, 14, 42, 180, 0, 7, 192, 0, 17, 190, 167, 0, 11, 42, 180, 0, 7, 192, 0, 19]
abbrev dktX2_size_2 : List UInt8 := dkwX2_size_2 ++ dktX2_size_3
def dkwX2_size_1 : List UInt8 := [180, 0, 7, 193, 0, 15, 153, 0, 14, 42, 180, 0, 7, 192, 0, 15, 190, 167, 0, 32, 42, 180, 0, 7]
abbrev dktX2_size_1 : List UInt8 := dkwX2_size_1 ++ dktX2_size_2
def dkwX2_size_0 : List UInt8 := [42, 180, 0, 7, 193, 0, 13, 153, 0, 14, 42, 180, 0, 7, 192, 0, 13, 190, 167, 0, 53, 42]
abbrev dktX2_size_0 : List UInt8 := dkwX2_size_0 ++ dktX2_size_1
theorem dksX2_size_0 : cX2_size.data.toList.drop 0 = dktX2_size_0 := by decide +kernel
theorem dksX2_size_1 : cX2_size.data.toList.drop 22 = dktX2_size_1 := dk_seg dksX2_size_0 22 rfl rfl
theorem dksX2_size_2 : cX2_size.data.toList.drop 46 = dktX2_size_2 := dk_seg dksX2_size_1 24 rfl rfl
theorem dksX2_size_3 : cX2_size.data.toList.drop 70 = dktX2_size_3 := dk_seg dksX2_size_2 24 rfl rfl
theorem dX2_size_0 : decode cX2_size 0 = .ok (.aload_n 0, 1) := dk_42 (dk_at dksX2_size_0 0 rfl rfl)
theorem dX2_size_1 : decode cX2_size 1 = .ok (.getfield 7, 3) := dk_180 0 7 (dk_at dksX2_size_0 1 rfl rfl)
theorem dX2_size_4 : decode cX2_size 4 = .ok (.instanceof 13, 3) := dk_193 0 13 (dk_at dksX2_size_0 4 rfl rfl)
theorem dX2_size_7 : decode cX2_size 7 = .ok (.ifCond .eq 14, 3) := dk_153 0 14 (dk_at dksX2_size_0 7 rfl rfl)
theorem dX2_size_10 : decode cX2_size 10 = .ok (.aload_n 0, 1) := dk_42 (dk_at dksX2_size_0 10 rfl rfl)
theorem dX2_size_11 : decode cX2_size 11 = .ok (.getfield 7, 3) := dk_180 0 7 (dk_at dksX2_size_0 11 rfl rfl)
theorem dX2_size_14 : decode cX2_size 14 = .ok (.checkcast 13, 3) := dk_192 0 13 (dk_at dksX2_size_0 14 rfl rfl)
theorem dX2_size_17 : decode cX2_size 17 = .ok (.arraylength, 1) := dk_190 (dk_at dksX2_size_0 17 rfl rfl)
theorem dX2_size_18 : decode cX2_size 18 = .ok (.goto 53, 3) := dk_167 0 53 (dk_at dksX2_size_0 18 rfl rfl)
theorem dX2_size_21 : decode cX2_size 21 = .ok (.aload_n 0, 1) := dk_42 (dk_at dksX2_size_0 21 rfl rfl)
theorem dX2_size_22 : decode cX2_size 22 = .ok (.getfield 7, 3) := dk_180 0 7 (dk_at dksX2_size_1 0 rfl rfl)
theorem dX2_size_25 : decode cX2_size 25 = .ok (.instanceof 15, 3) := dk_193 0 15 (dk_at dksX2_size_1 3 rfl rfl)
theorem dX2_size_28 : decode cX2_size 28 = .ok (.ifCond .eq 14, 3) := dk_153 0 14 (dk_at dksX2_size_1 6 rfl rfl)
theorem dX2_size_31 : decode cX2_size 31 = .ok (.aload_n 0, 1) := dk_42 (dk_at dksX2_size_1 9 rfl rfl)
theorem dX2_size_32 : decode cX2_size 32 = .ok (.getfield 7, 3) := dk_180 0 7 (dk_at dksX2_size_1 10 rfl rfl)
theorem dX2_size_35 : decode cX2_size 35 = .ok (.checkcast 15, 3) := dk_192 0 15 (dk_at dksX2_size_1 13 rfl rfl)
theorem dX2_size_38 : decode cX2_size 38 = .ok (.arraylength, 1) := dk_190 (dk_at dksX2_size_1 16 rfl rfl)
theorem dX2_size_39 : decode cX2_size 39 = .ok (.goto 32, 3) := dk_167 0 32 (dk_at dksX2_size_1 17 rfl rfl)
theorem dX2_size_42 : decode cX2_size 42 = .ok (.aload_n 0, 1) := dk_42 (dk_at dksX2_size_1 20 rfl rfl)
theorem dX2_size_43 : decode cX2_size 43 = .ok (.getfield 7, 3) := dk_180 0 7 (dk_at dksX2_size_1 21 rfl rfl)
theorem dX2_size_46 : decode cX2_size 46 = .ok (.instanceof 17, 3) := dk_193 0 17 (dk_at dksX2_size_2 0 rfl rfl)
theorem dX2_size_49 : decode cX2_size 49 = .ok (.ifCond .eq 14, 3) := dk_153 0 14 (dk_at dksX2_size_2 3 rfl rfl)
theorem dX2_size_52 : decode cX2_size 52 = .ok (.aload_n 0, 1) := dk_42 (dk_at dksX2_size_2 6 rfl rfl)
theorem dX2_size_53 : decode cX2_size 53 = .ok (.getfield 7, 3) := dk_180 0 7 (dk_at dksX2_size_2 7 rfl rfl)
theorem dX2_size_56 : decode cX2_size 56 = .ok (.checkcast 17, 3) := dk_192 0 17 (dk_at dksX2_size_2 10 rfl rfl)
theorem dX2_size_59 : decode cX2_size 59 = .ok (.arraylength, 1) := dk_190 (dk_at dksX2_size_2 13 rfl rfl)
theorem dX2_size_60 : decode cX2_size 60 = .ok (.goto 11, 3) := dk_167 0 11 (dk_at dksX2_size_2 14 rfl rfl)
theorem dX2_size_63 : decode cX2_size 63 = .ok (.aload_n 0, 1) := dk_42 (dk_at dksX2_size_2 17 rfl rfl)
theorem dX2_size_64 : decode cX2_size 64 = .ok (.getfield 7, 3) := dk_180 0 7 (dk_at dksX2_size_2 18 rfl rfl)
theorem dX2_size_67 : decode cX2_size 67 = .ok (.checkcast 19, 3) := dk_192 0 19 (dk_at dksX2_size_2 21 rfl rfl)
theorem dX2_size_70 : decode cX2_size 70 = .ok (.arraylength, 1) := dk_190 (dk_at dksX2_size_3 0 rfl rfl)
theorem dX2_size_71 : decode cX2_size 71 = .ok (.ireturn, 1) := dk_172 (dk_at dksX2_size_3 1 rfl rfl)
abbrev cX2_at : ByteArray := prog_9_method_4_code
def yX2_at : MethodName := ⟨RX2, "at", "(I)J"⟩
def dkwX2_at_3 : List UInt8 := [180, 0, 7, 192, 0, 19, 27, 47, 173]
abbrev dktX2_at_3 : List UInt8 := dkwX2_at_3 ++ []
def dkwX2_at_2 : List UInt8 := [180, 0, 7, 193, 0, 17, 153, 0, 16, 42, 180, 0, 7, 192, 0, 17, 27, 46, 133, 167, 0, 12, 42]
abbrev dktX2_at_2 : List UInt8 := dkwX2_at_2 ++ dktX2_at_3
def dkwX2_at_1 : List UInt8 := [180, 0, 7, 193, 0, 15, 153, 0, 16, 42, 180, 0, 7, 192, 0, 15, 27, 53, 133, 167, 0, 35, 42]
abbrev dktX2_at_1 : List UInt8 := dkwX2_at_1 ++ dktX2_at_2
def dkwX2_at_0 : List UInt8 := [42, 180, 0, 7, 193, 0, 13, 153, 0, 16, 42, 180, 0, 7, 192, 0, 13, 27, 51, 133, 167, 0, 58, 42]
abbrev dktX2_at_0 : List UInt8 := dkwX2_at_0 ++ dktX2_at_1
theorem dksX2_at_0 : cX2_at.data.toList.drop 0 = dktX2_at_0 := by decide +kernel
theorem dksX2_at_1 : cX2_at.data.toList.drop 24 = dktX2_at_1 := dk_seg dksX2_at_0 24 rfl rfl
theorem dksX2_at_2 : cX2_at.data.toList.drop 47 = dktX2_at_2 := dk_seg dksX2_at_1 23 rfl rfl
theorem dksX2_at_3 : cX2_at.data.toList.drop 70 = dktX2_at_3 := dk_seg dksX2_at_2 23 rfl rfl
theorem dX2_at_0 : decode cX2_at 0 = .ok (.aload_n 0, 1) := dk_42 (dk_at dksX2_at_0 0 rfl rfl)
theorem dX2_at_1 : decode cX2_at 1 = .ok (.getfield 7, 3) := dk_180 0 7 (dk_at dksX2_at_0 1 rfl rfl)
theorem dX2_at_4 : decode cX2_at 4 = .ok (.instanceof 13, 3) := dk_193 0 13 (dk_at dksX2_at_0 4 rfl rfl)
theorem dX2_at_7 : decode cX2_at 7 = .ok (.ifCond .eq 16, 3) := dk_153 0 16 (dk_at dksX2_at_0 7 rfl rfl)
theorem dX2_at_10 : decode cX2_at 10 = .ok (.aload_n 0, 1) := dk_42 (dk_at dksX2_at_0 10 rfl rfl)
theorem dX2_at_11 : decode cX2_at 11 = .ok (.getfield 7, 3) := dk_180 0 7 (dk_at dksX2_at_0 11 rfl rfl)
theorem dX2_at_14 : decode cX2_at 14 = .ok (.checkcast 13, 3) := dk_192 0 13 (dk_at dksX2_at_0 14 rfl rfl)
theorem dX2_at_17 : decode cX2_at 17 = .ok (.iload_n 1, 1) := dk_27 (dk_at dksX2_at_0 17 rfl rfl)
theorem dX2_at_18 : decode cX2_at 18 = .ok (.baload, 1) := dk_51 (dk_at dksX2_at_0 18 rfl rfl)
theorem dX2_at_19 : decode cX2_at 19 = .ok (.i2l, 1) := dk_133 (dk_at dksX2_at_0 19 rfl rfl)
theorem dX2_at_20 : decode cX2_at 20 = .ok (.goto 58, 3) := dk_167 0 58 (dk_at dksX2_at_0 20 rfl rfl)
theorem dX2_at_23 : decode cX2_at 23 = .ok (.aload_n 0, 1) := dk_42 (dk_at dksX2_at_0 23 rfl rfl)
theorem dX2_at_24 : decode cX2_at 24 = .ok (.getfield 7, 3) := dk_180 0 7 (dk_at dksX2_at_1 0 rfl rfl)
theorem dX2_at_27 : decode cX2_at 27 = .ok (.instanceof 15, 3) := dk_193 0 15 (dk_at dksX2_at_1 3 rfl rfl)
theorem dX2_at_30 : decode cX2_at 30 = .ok (.ifCond .eq 16, 3) := dk_153 0 16 (dk_at dksX2_at_1 6 rfl rfl)
theorem dX2_at_33 : decode cX2_at 33 = .ok (.aload_n 0, 1) := dk_42 (dk_at dksX2_at_1 9 rfl rfl)
theorem dX2_at_34 : decode cX2_at 34 = .ok (.getfield 7, 3) := dk_180 0 7 (dk_at dksX2_at_1 10 rfl rfl)
theorem dX2_at_37 : decode cX2_at 37 = .ok (.checkcast 15, 3) := dk_192 0 15 (dk_at dksX2_at_1 13 rfl rfl)
theorem dX2_at_40 : decode cX2_at 40 = .ok (.iload_n 1, 1) := dk_27 (dk_at dksX2_at_1 16 rfl rfl)
theorem dX2_at_41 : decode cX2_at 41 = .ok (.saload, 1) := dk_53 (dk_at dksX2_at_1 17 rfl rfl)
theorem dX2_at_42 : decode cX2_at 42 = .ok (.i2l, 1) := dk_133 (dk_at dksX2_at_1 18 rfl rfl)
theorem dX2_at_43 : decode cX2_at 43 = .ok (.goto 35, 3) := dk_167 0 35 (dk_at dksX2_at_1 19 rfl rfl)
theorem dX2_at_46 : decode cX2_at 46 = .ok (.aload_n 0, 1) := dk_42 (dk_at dksX2_at_1 22 rfl rfl)
theorem dX2_at_47 : decode cX2_at 47 = .ok (.getfield 7, 3) := dk_180 0 7 (dk_at dksX2_at_2 0 rfl rfl)
theorem dX2_at_50 : decode cX2_at 50 = .ok (.instanceof 17, 3) := dk_193 0 17 (dk_at dksX2_at_2 3 rfl rfl)
theorem dX2_at_53 : decode cX2_at 53 = .ok (.ifCond .eq 16, 3) := dk_153 0 16 (dk_at dksX2_at_2 6 rfl rfl)
theorem dX2_at_56 : decode cX2_at 56 = .ok (.aload_n 0, 1) := dk_42 (dk_at dksX2_at_2 9 rfl rfl)
theorem dX2_at_57 : decode cX2_at 57 = .ok (.getfield 7, 3) := dk_180 0 7 (dk_at dksX2_at_2 10 rfl rfl)
theorem dX2_at_60 : decode cX2_at 60 = .ok (.checkcast 17, 3) := dk_192 0 17 (dk_at dksX2_at_2 13 rfl rfl)
theorem dX2_at_63 : decode cX2_at 63 = .ok (.iload_n 1, 1) := dk_27 (dk_at dksX2_at_2 16 rfl rfl)
theorem dX2_at_64 : decode cX2_at 64 = .ok (.iaload, 1) := dk_46 (dk_at dksX2_at_2 17 rfl rfl)
theorem dX2_at_65 : decode cX2_at 65 = .ok (.i2l, 1) := dk_133 (dk_at dksX2_at_2 18 rfl rfl)
theorem dX2_at_66 : decode cX2_at 66 = .ok (.goto 12, 3) := dk_167 0 12 (dk_at dksX2_at_2 19 rfl rfl)
theorem dX2_at_69 : decode cX2_at 69 = .ok (.aload_n 0, 1) := dk_42 (dk_at dksX2_at_2 22 rfl rfl)
theorem dX2_at_70 : decode cX2_at 70 = .ok (.getfield 7, 3) := dk_180 0 7 (dk_at dksX2_at_3 0 rfl rfl)
theorem dX2_at_73 : decode cX2_at 73 = .ok (.checkcast 19, 3) := dk_192 0 19 (dk_at dksX2_at_3 3 rfl rfl)
theorem dX2_at_76 : decode cX2_at 76 = .ok (.iload_n 1, 1) := dk_27 (dk_at dksX2_at_3 6 rfl rfl)
theorem dX2_at_77 : decode cX2_at 77 = .ok (.laload, 1) := dk_47 (dk_at dksX2_at_3 7 rfl rfl)
theorem dX2_at_78 : decode cX2_at 78 = .ok (.lreturn, 1) := dk_173 (dk_at dksX2_at_3 8 rfl rfl)
abbrev cX2_make : ByteArray := prog_9_method_2_code
def yX2_make : MethodName := ⟨RX2, "make", "(II)V"⟩
def dkwX2_make_1 : List UInt8 := [160, 0, 9, 28, 188, 10, 167, 0, 6, 28, 188, 11, 181, 0, 7, 177]
abbrev dktX2_make_1 : List UInt8 := dkwX2_make_1 ++ []
def dkwX2_make_0 : List UInt8 := [42, 27, 154, 0, 9, 28, 188, 8, 167, 0, 28, 27, 4, 160, 0, 9, 28, 188, 9, 167, 0, 17, 27, 5]
abbrev dktX2_make_0 : List UInt8 := dkwX2_make_0 ++ dktX2_make_1
theorem dksX2_make_0 : cX2_make.data.toList.drop 0 = dktX2_make_0 := by decide +kernel
theorem dksX2_make_1 : cX2_make.data.toList.drop 24 = dktX2_make_1 := dk_seg dksX2_make_0 24 rfl rfl
theorem dX2_make_0 : decode cX2_make 0 = .ok (.aload_n 0, 1) := dk_42 (dk_at dksX2_make_0 0 rfl rfl)
theorem dX2_make_1 : decode cX2_make 1 = .ok (.iload_n 1, 1) := dk_27 (dk_at dksX2_make_0 1 rfl rfl)
theorem dX2_make_2 : decode cX2_make 2 = .ok (.ifCond .ne 9, 3) := dk_154 0 9 (dk_at dksX2_make_0 2 rfl rfl)
theorem dX2_make_5 : decode cX2_make 5 = .ok (.iload_n 2, 1) := dk_28 (dk_at dksX2_make_0 5 rfl rfl)
theorem dX2_make_6 : decode cX2_make 6 = .ok (.newarray .byte, 2) := dk_188_8 (dk_at dksX2_make_0 6 rfl rfl)
theorem dX2_make_8 : decode cX2_make 8 = .ok (.goto 28, 3) := dk_167 0 28 (dk_at dksX2_make_0 8 rfl rfl)
theorem dX2_make_11 : decode cX2_make 11 = .ok (.iload_n 1, 1) := dk_27 (dk_at dksX2_make_0 11 rfl rfl)
theorem dX2_make_12 : decode cX2_make 12 = .ok (.iconst 1, 1) := dk_4 (dk_at dksX2_make_0 12 rfl rfl)
theorem dX2_make_13 : decode cX2_make 13 = .ok (.if_icmp .ne 9, 3) := dk_160 0 9 (dk_at dksX2_make_0 13 rfl rfl)
theorem dX2_make_16 : decode cX2_make 16 = .ok (.iload_n 2, 1) := dk_28 (dk_at dksX2_make_0 16 rfl rfl)
theorem dX2_make_17 : decode cX2_make 17 = .ok (.newarray .short, 2) := dk_188_9 (dk_at dksX2_make_0 17 rfl rfl)
theorem dX2_make_19 : decode cX2_make 19 = .ok (.goto 17, 3) := dk_167 0 17 (dk_at dksX2_make_0 19 rfl rfl)
theorem dX2_make_22 : decode cX2_make 22 = .ok (.iload_n 1, 1) := dk_27 (dk_at dksX2_make_0 22 rfl rfl)
theorem dX2_make_23 : decode cX2_make 23 = .ok (.iconst 2, 1) := dk_5 (dk_at dksX2_make_0 23 rfl rfl)
theorem dX2_make_24 : decode cX2_make 24 = .ok (.if_icmp .ne 9, 3) := dk_160 0 9 (dk_at dksX2_make_1 0 rfl rfl)
theorem dX2_make_27 : decode cX2_make 27 = .ok (.iload_n 2, 1) := dk_28 (dk_at dksX2_make_1 3 rfl rfl)
theorem dX2_make_28 : decode cX2_make 28 = .ok (.newarray .int, 2) := dk_188_10 (dk_at dksX2_make_1 4 rfl rfl)
theorem dX2_make_30 : decode cX2_make 30 = .ok (.goto 6, 3) := dk_167 0 6 (dk_at dksX2_make_1 6 rfl rfl)
theorem dX2_make_33 : decode cX2_make 33 = .ok (.iload_n 2, 1) := dk_28 (dk_at dksX2_make_1 9 rfl rfl)
theorem dX2_make_34 : decode cX2_make 34 = .ok (.newarray .long, 2) := dk_188_11 (dk_at dksX2_make_1 10 rfl rfl)
theorem dX2_make_36 : decode cX2_make 36 = .ok (.putfield 7, 3) := dk_181 0 7 (dk_at dksX2_make_1 12 rfl rfl)
theorem dX2_make_39 : decode cX2_make 39 = .ok (.return_, 1) := dk_177 (dk_at dksX2_make_1 15 rfl rfl)
abbrev cX2_put : ByteArray := prog_9_method_5_code
def yX2_put : MethodName := ⟨RX2, "put", "(IJ)V"⟩
def dkwX2_put_3 : List UInt8 := [79, 167, 0, 13, 42, 180, 0, 7, 192, 0, 19, 27, 32, 80, 177]
abbrev dktX2_put_3 : List UInt8 := dkwX2_put_3 ++ []
def dkwX2_put_2 : List UInt8 := [86, 167, 0, 37, 42, 180, 0, 7, 193, 0, 17, 153, 0, 17, 42, 180, 0, 7, 192, 0, 17, 27, 32, 136]
abbrev dktX2_put_2 : List UInt8 := dkwX2_put_2 ++ dktX2_put_3
def dkwX2_put_1 : List UInt8 := [167, 0, 62, 42, 180, 0, 7, 193, 0, 15, 153, 0, 18, 42, 180, 0, 7, 192, 0, 15, 27, 32, 136, 147]
abbrev dktX2_put_1 : List UInt8 := dkwX2_put_1 ++ dktX2_put_2
def dkwX2_put_0 : List UInt8 := [42, 180, 0, 7, 193, 0, 13, 153, 0, 18, 42, 180, 0, 7, 192, 0, 13, 27, 32, 136, 145, 84]
abbrev dktX2_put_0 : List UInt8 := dkwX2_put_0 ++ dktX2_put_1
theorem dksX2_put_0 : cX2_put.data.toList.drop 0 = dktX2_put_0 := by decide +kernel
theorem dksX2_put_1 : cX2_put.data.toList.drop 22 = dktX2_put_1 := dk_seg dksX2_put_0 22 rfl rfl
theorem dksX2_put_2 : cX2_put.data.toList.drop 46 = dktX2_put_2 := dk_seg dksX2_put_1 24 rfl rfl
theorem dksX2_put_3 : cX2_put.data.toList.drop 70 = dktX2_put_3 := dk_seg dksX2_put_2 24 rfl rfl
theorem dX2_put_0 : decode cX2_put 0 = .ok (.aload_n 0, 1) := dk_42 (dk_at dksX2_put_0 0 rfl rfl)
theorem dX2_put_1 : decode cX2_put 1 = .ok (.getfield 7, 3) := dk_180 0 7 (dk_at dksX2_put_0 1 rfl rfl)
theorem dX2_put_4 : decode cX2_put 4 = .ok (.instanceof 13, 3) := dk_193 0 13 (dk_at dksX2_put_0 4 rfl rfl)
theorem dX2_put_7 : decode cX2_put 7 = .ok (.ifCond .eq 18, 3) := dk_153 0 18 (dk_at dksX2_put_0 7 rfl rfl)
theorem dX2_put_10 : decode cX2_put 10 = .ok (.aload_n 0, 1) := dk_42 (dk_at dksX2_put_0 10 rfl rfl)
theorem dX2_put_11 : decode cX2_put 11 = .ok (.getfield 7, 3) := dk_180 0 7 (dk_at dksX2_put_0 11 rfl rfl)
theorem dX2_put_14 : decode cX2_put 14 = .ok (.checkcast 13, 3) := dk_192 0 13 (dk_at dksX2_put_0 14 rfl rfl)
theorem dX2_put_17 : decode cX2_put 17 = .ok (.iload_n 1, 1) := dk_27 (dk_at dksX2_put_0 17 rfl rfl)
theorem dX2_put_18 : decode cX2_put 18 = .ok (.lload_n 2, 1) := dk_32 (dk_at dksX2_put_0 18 rfl rfl)
theorem dX2_put_19 : decode cX2_put 19 = .ok (.l2i, 1) := dk_136 (dk_at dksX2_put_0 19 rfl rfl)
theorem dX2_put_20 : decode cX2_put 20 = .ok (.i2b, 1) := dk_145 (dk_at dksX2_put_0 20 rfl rfl)
theorem dX2_put_21 : decode cX2_put 21 = .ok (.bastore, 1) := dk_84 (dk_at dksX2_put_0 21 rfl rfl)
theorem dX2_put_22 : decode cX2_put 22 = .ok (.goto 62, 3) := dk_167 0 62 (dk_at dksX2_put_1 0 rfl rfl)
theorem dX2_put_25 : decode cX2_put 25 = .ok (.aload_n 0, 1) := dk_42 (dk_at dksX2_put_1 3 rfl rfl)
theorem dX2_put_26 : decode cX2_put 26 = .ok (.getfield 7, 3) := dk_180 0 7 (dk_at dksX2_put_1 4 rfl rfl)
theorem dX2_put_29 : decode cX2_put 29 = .ok (.instanceof 15, 3) := dk_193 0 15 (dk_at dksX2_put_1 7 rfl rfl)
theorem dX2_put_32 : decode cX2_put 32 = .ok (.ifCond .eq 18, 3) := dk_153 0 18 (dk_at dksX2_put_1 10 rfl rfl)
theorem dX2_put_35 : decode cX2_put 35 = .ok (.aload_n 0, 1) := dk_42 (dk_at dksX2_put_1 13 rfl rfl)
theorem dX2_put_36 : decode cX2_put 36 = .ok (.getfield 7, 3) := dk_180 0 7 (dk_at dksX2_put_1 14 rfl rfl)
theorem dX2_put_39 : decode cX2_put 39 = .ok (.checkcast 15, 3) := dk_192 0 15 (dk_at dksX2_put_1 17 rfl rfl)
theorem dX2_put_42 : decode cX2_put 42 = .ok (.iload_n 1, 1) := dk_27 (dk_at dksX2_put_1 20 rfl rfl)
theorem dX2_put_43 : decode cX2_put 43 = .ok (.lload_n 2, 1) := dk_32 (dk_at dksX2_put_1 21 rfl rfl)
theorem dX2_put_44 : decode cX2_put 44 = .ok (.l2i, 1) := dk_136 (dk_at dksX2_put_1 22 rfl rfl)
theorem dX2_put_45 : decode cX2_put 45 = .ok (.i2s, 1) := dk_147 (dk_at dksX2_put_1 23 rfl rfl)
theorem dX2_put_46 : decode cX2_put 46 = .ok (.sastore, 1) := dk_86 (dk_at dksX2_put_2 0 rfl rfl)
theorem dX2_put_47 : decode cX2_put 47 = .ok (.goto 37, 3) := dk_167 0 37 (dk_at dksX2_put_2 1 rfl rfl)
theorem dX2_put_50 : decode cX2_put 50 = .ok (.aload_n 0, 1) := dk_42 (dk_at dksX2_put_2 4 rfl rfl)
theorem dX2_put_51 : decode cX2_put 51 = .ok (.getfield 7, 3) := dk_180 0 7 (dk_at dksX2_put_2 5 rfl rfl)
theorem dX2_put_54 : decode cX2_put 54 = .ok (.instanceof 17, 3) := dk_193 0 17 (dk_at dksX2_put_2 8 rfl rfl)
theorem dX2_put_57 : decode cX2_put 57 = .ok (.ifCond .eq 17, 3) := dk_153 0 17 (dk_at dksX2_put_2 11 rfl rfl)
theorem dX2_put_60 : decode cX2_put 60 = .ok (.aload_n 0, 1) := dk_42 (dk_at dksX2_put_2 14 rfl rfl)
theorem dX2_put_61 : decode cX2_put 61 = .ok (.getfield 7, 3) := dk_180 0 7 (dk_at dksX2_put_2 15 rfl rfl)
theorem dX2_put_64 : decode cX2_put 64 = .ok (.checkcast 17, 3) := dk_192 0 17 (dk_at dksX2_put_2 18 rfl rfl)
theorem dX2_put_67 : decode cX2_put 67 = .ok (.iload_n 1, 1) := dk_27 (dk_at dksX2_put_2 21 rfl rfl)
theorem dX2_put_68 : decode cX2_put 68 = .ok (.lload_n 2, 1) := dk_32 (dk_at dksX2_put_2 22 rfl rfl)
theorem dX2_put_69 : decode cX2_put 69 = .ok (.l2i, 1) := dk_136 (dk_at dksX2_put_2 23 rfl rfl)
theorem dX2_put_70 : decode cX2_put 70 = .ok (.iastore, 1) := dk_79 (dk_at dksX2_put_3 0 rfl rfl)
theorem dX2_put_71 : decode cX2_put 71 = .ok (.goto 13, 3) := dk_167 0 13 (dk_at dksX2_put_3 1 rfl rfl)
theorem dX2_put_74 : decode cX2_put 74 = .ok (.aload_n 0, 1) := dk_42 (dk_at dksX2_put_3 4 rfl rfl)
theorem dX2_put_75 : decode cX2_put 75 = .ok (.getfield 7, 3) := dk_180 0 7 (dk_at dksX2_put_3 5 rfl rfl)
theorem dX2_put_78 : decode cX2_put 78 = .ok (.checkcast 19, 3) := dk_192 0 19 (dk_at dksX2_put_3 8 rfl rfl)
theorem dX2_put_81 : decode cX2_put 81 = .ok (.iload_n 1, 1) := dk_27 (dk_at dksX2_put_3 11 rfl rfl)
theorem dX2_put_82 : decode cX2_put 82 = .ok (.lload_n 2, 1) := dk_32 (dk_at dksX2_put_3 12 rfl rfl)
theorem dX2_put_83 : decode cX2_put 83 = .ok (.lastore, 1) := dk_80 (dk_at dksX2_put_3 13 rfl rfl)
theorem dX2_put_84 : decode cX2_put 84 = .ok (.return_, 1) := dk_177 (dk_at dksX2_put_3 14 rfl rfl)
theorem q141 : (Jvm.Cond.initialized "CardHolder$Slot") ∈ lw_all := lw_g (lw_at lw_m1 6 rfl) rfl
theorem q269 : (Jvm.Cond.instantiable "CardHolder$Slot" (1 : Nat)) ∈ lw_all := lw_g (lw_at lw_m1 134 rfl) rfl
theorem q271 : (Jvm.Cond.instanceMethod ({ cls := "CardHolder$Slot", name := "<init>", desc := "()V" } : Jvm.MethodName)) ∈ lw_all := lw_g (lw_at lw_m1 136 rfl) rfl
theorem q272 : (Jvm.Cond.code ({ cls := "CardHolder$Slot", name := "<init>", desc := "()V" } : Jvm.MethodName) prog_9_method_1_code (1 : Nat) (Option.none : Option Jvm.ClassFile.FieldType)) ∈ lw_all := lw_g (lw_at lw_m1 137 rfl) rfl
theorem q273 : (Jvm.Cond.methodLink "CardHolder$Slot" (1 : Nat) ({ cls := "java/lang/Object", name := "<init>", desc := "()V" } : Jvm.MethodName)) ∈ lw_all := lw_g (lw_at lw_m1 138 rfl) rfl
theorem q274 : (Jvm.Cond.fieldLink "CardHolder$Slot" (7 : Nat) "CardHolder$Slot" "row" "Ljava/lang/Object;") ∈ lw_all := lw_g (lw_at lw_m1 139 rfl) rfl
theorem q276 : (Jvm.Cond.lays "CardHolder$Slot" "CardHolder$Slot" "row" "Ljava/lang/Object;") ∈ lw_all := lw_g (lw_at lw_m1 141 rfl) rfl
theorem q277 : (Jvm.Cond.soleField "CardHolder$Slot" "row") ∈ lw_all := lw_g (lw_at lw_m1 142 rfl) rfl
theorem q278 : (Jvm.Cond.superclass "CardHolder$Slot" "java/lang/Object") ∈ lw_all := lw_g (lw_at lw_m1 143 rfl) rfl
theorem q718 : (Jvm.Cond.selects "CardHolder$Slot" ({ cls := "java/lang/Object", name := "getClass", desc := "()Ljava/lang/Class;" } : Jvm.MethodName) ({ cls := "java/lang/Object", name := "getClass", desc := "()Ljava/lang/Class;" } : Jvm.MethodName)) ∈ lw_all := lw_g (lw_at lw_m3 103 rfl) rfl
theorem q1090 : (Jvm.Cond.instanceMethod ({ cls := "CardHolder$Slot", name := "size", desc := "()I" } : Jvm.MethodName)) ∈ lw_all := lw_g (lw_at lw_m4 235 rfl) rfl
theorem q1091 : (Jvm.Cond.selects "CardHolder$Slot" ({ cls := "CardHolder$Slot", name := "size", desc := "()I" } : Jvm.MethodName) ({ cls := "CardHolder$Slot", name := "size", desc := "()I" } : Jvm.MethodName)) ∈ lw_all := lw_g (lw_at lw_m4 236 rfl) rfl
theorem q1092 : (Jvm.Cond.code ({ cls := "CardHolder$Slot", name := "size", desc := "()I" } : Jvm.MethodName) prog_9_method_3_code (1 : Nat) (Option.some Jvm.ClassFile.FieldType.int)) ∈ lw_all := lw_g (lw_at lw_m4 237 rfl) rfl
theorem q1093 : (Jvm.Cond.classLink "CardHolder$Slot" (13 : Nat) "[B") ∈ lw_all := lw_g (lw_at lw_m4 238 rfl) rfl
theorem q1094 : (Jvm.Cond.classLink "CardHolder$Slot" (15 : Nat) "[S") ∈ lw_all := lw_g (lw_at lw_m4 239 rfl) rfl
theorem q1095 : (Jvm.Cond.classLink "CardHolder$Slot" (17 : Nat) "[I") ∈ lw_all := lw_g (lw_at lw_m5 0 rfl) rfl
theorem q1096 : (Jvm.Cond.classLink "CardHolder$Slot" (19 : Nat) "[J") ∈ lw_all := lw_g (lw_at lw_m5 1 rfl) rfl
theorem q1098 : (Jvm.Cond.instanceMethod ({ cls := "CardHolder$Slot", name := "at", desc := "(I)J" } : Jvm.MethodName)) ∈ lw_all := lw_g (lw_at lw_m5 3 rfl) rfl
theorem q1099 : (Jvm.Cond.selects "CardHolder$Slot" ({ cls := "CardHolder$Slot", name := "at", desc := "(I)J" } : Jvm.MethodName) ({ cls := "CardHolder$Slot", name := "at", desc := "(I)J" } : Jvm.MethodName)) ∈ lw_all := lw_g (lw_at lw_m5 4 rfl) rfl
theorem q1100 : (Jvm.Cond.code ({ cls := "CardHolder$Slot", name := "at", desc := "(I)J" } : Jvm.MethodName) prog_9_method_4_code (2 : Nat) (Option.some Jvm.ClassFile.FieldType.long)) ∈ lw_all := lw_g (lw_at lw_m5 5 rfl) rfl
theorem q1337 : (Jvm.Cond.instanceMethod ({ cls := "CardHolder$Slot", name := "make", desc := "(II)V" } : Jvm.MethodName)) ∈ lw_all := lw_g (lw_at lw_m6 2 rfl) rfl
theorem q1338 : (Jvm.Cond.selects "CardHolder$Slot" ({ cls := "CardHolder$Slot", name := "make", desc := "(II)V" } : Jvm.MethodName) ({ cls := "CardHolder$Slot", name := "make", desc := "(II)V" } : Jvm.MethodName)) ∈ lw_all := lw_g (lw_at lw_m6 3 rfl) rfl
theorem q1339 : (Jvm.Cond.code ({ cls := "CardHolder$Slot", name := "make", desc := "(II)V" } : Jvm.MethodName) prog_9_method_2_code (3 : Nat) (Option.none : Option Jvm.ClassFile.FieldType)) ∈ lw_all := lw_g (lw_at lw_m6 4 rfl) rfl
theorem q1366 : (Jvm.Cond.instanceMethod ({ cls := "CardHolder$Slot", name := "put", desc := "(IJ)V" } : Jvm.MethodName)) ∈ lw_all := lw_g (lw_at lw_m6 31 rfl) rfl
theorem q1367 : (Jvm.Cond.selects "CardHolder$Slot" ({ cls := "CardHolder$Slot", name := "put", desc := "(IJ)V" } : Jvm.MethodName) ({ cls := "CardHolder$Slot", name := "put", desc := "(IJ)V" } : Jvm.MethodName)) ∈ lw_all := lw_g (lw_at lw_m6 32 rfl) rfl
theorem q1368 : (Jvm.Cond.code ({ cls := "CardHolder$Slot", name := "put", desc := "(IJ)V" } : Jvm.MethodName) prog_9_method_5_code (4 : Nat) (Option.none : Option Jvm.ClassFile.FieldType)) ∈ lw_all := lw_g (lw_at lw_m6 33 rfl) rfl
theorem q2089 : (Jvm.Cond.castable "CardHolder$Slot" "java/lang/Object") ∈ lw_tbl := lw_at lw_m9 34 rfl
theorem in_X2 : ∀ w ∈ wsX20, w ∈ lw_all := lw_in wsX20 [276] (by decide +kernel) (by decide +kernel)

/-! CardHolder$Reader -/
set_option maxRecDepth 100000
def RX4 : String := "CardHolder$Reader"
def TX4 : u_T := fun k => match k with
  | 0 => ("CardHolder$Reader", "size", "I", true)
  | 1 => ("CardHolder$Reader", "city", "LCardHolder$City;", true)
  | 2 => ("CardHolder$Reader", "at", "I", false)
  | 3 => ("CardHolder$Reader", "from", "I", false)
  | 4 => ("CardHolder$Reader", "value", "I", false)
  | 5 => ("CardHolder$Reader", "token", "LCardHolder$Token;", false)
  | _ => ("CardHolder$Reader", "this$0", "LCardHolder;", true)
def tyX4 : Nat → FieldType := fun k => match k with
  | 0 => .int
  | 1 => .object "CardHolder$City"
  | 2 => .int
  | 3 => .int
  | 4 => .int
  | 5 => .object "CardHolder$Token"
  | _ => .object "CardHolder"
abbrev wsX40 : List Cond := u_ws RX4 TX4 7
theorem nmX4 : ∀ a, a < 7 → ∀ b, b < 7 → a ≠ b → (TX4 a).2.1 ≠ (TX4 b).2.1 := by decide +kernel
theorem tyX4_ok : ∀ k, k < 7 → parseFieldDescriptor (TX4 k).2.2.1 = some (tyX4 k) := by decide +kernel
abbrev cX4_init : ByteArray := prog_8_method_1_code
def yX4_init : MethodName := ⟨RX4, "<init>", "(LCardHolder;)V"⟩
def dkwX4_init_1 : List UInt8 := [89, 183, 0, 24, 181, 0, 25, 42, 178, 0, 29, 181, 0, 35, 42, 182, 0, 38, 177]
abbrev dktX4_init_1 : List UInt8 := dkwX4_init_1 ++ []
def dkwX4_init_0 : List UInt8 := [42, 43, 181, 0, 3, 42, 183, 0, 9, 42, 42, 180, 0, 3, 180, 0, 15, 181, 0, 19, 42, 187, 0, 22]
abbrev dktX4_init_0 : List UInt8 := dkwX4_init_0 ++ dktX4_init_1
theorem dksX4_init_0 : cX4_init.data.toList.drop 0 = dktX4_init_0 := by decide +kernel
theorem dksX4_init_1 : cX4_init.data.toList.drop 24 = dktX4_init_1 := dk_seg dksX4_init_0 24 rfl rfl
theorem dX4_init_0 : decode cX4_init 0 = .ok (.aload_n 0, 1) := dk_42 (dk_at dksX4_init_0 0 rfl rfl)
theorem dX4_init_1 : decode cX4_init 1 = .ok (.aload_n 1, 1) := dk_43 (dk_at dksX4_init_0 1 rfl rfl)
theorem dX4_init_2 : decode cX4_init 2 = .ok (.putfield 3, 3) := dk_181 0 3 (dk_at dksX4_init_0 2 rfl rfl)
theorem dX4_init_5 : decode cX4_init 5 = .ok (.aload_n 0, 1) := dk_42 (dk_at dksX4_init_0 5 rfl rfl)
theorem dX4_init_6 : decode cX4_init 6 = .ok (.invokespecial 9, 3) := dk_183 0 9 (dk_at dksX4_init_0 6 rfl rfl)
theorem dX4_init_9 : decode cX4_init 9 = .ok (.aload_n 0, 1) := dk_42 (dk_at dksX4_init_0 9 rfl rfl)
theorem dX4_init_10 : decode cX4_init 10 = .ok (.aload_n 0, 1) := dk_42 (dk_at dksX4_init_0 10 rfl rfl)
theorem dX4_init_11 : decode cX4_init 11 = .ok (.getfield 3, 3) := dk_180 0 3 (dk_at dksX4_init_0 11 rfl rfl)
theorem dX4_init_14 : decode cX4_init 14 = .ok (.getfield 15, 3) := dk_180 0 15 (dk_at dksX4_init_0 14 rfl rfl)
theorem dX4_init_17 : decode cX4_init 17 = .ok (.putfield 19, 3) := dk_181 0 19 (dk_at dksX4_init_0 17 rfl rfl)
theorem dX4_init_20 : decode cX4_init 20 = .ok (.aload_n 0, 1) := dk_42 (dk_at dksX4_init_0 20 rfl rfl)
theorem dX4_init_21 : decode cX4_init 21 = .ok (.new 22, 3) := dk_187 0 22 (dk_at dksX4_init_0 21 rfl rfl)
theorem dX4_init_24 : decode cX4_init 24 = .ok (.dup, 1) := dk_89 (dk_at dksX4_init_1 0 rfl rfl)
theorem dX4_init_25 : decode cX4_init 25 = .ok (.invokespecial 24, 3) := dk_183 0 24 (dk_at dksX4_init_1 1 rfl rfl)
theorem dX4_init_28 : decode cX4_init 28 = .ok (.putfield 25, 3) := dk_181 0 25 (dk_at dksX4_init_1 4 rfl rfl)
theorem dX4_init_31 : decode cX4_init 31 = .ok (.aload_n 0, 1) := dk_42 (dk_at dksX4_init_1 7 rfl rfl)
theorem dX4_init_32 : decode cX4_init 32 = .ok (.getstatic 29, 3) := dk_178 0 29 (dk_at dksX4_init_1 8 rfl rfl)
theorem dX4_init_35 : decode cX4_init 35 = .ok (.putfield 35, 3) := dk_181 0 35 (dk_at dksX4_init_1 11 rfl rfl)
theorem dX4_init_38 : decode cX4_init 38 = .ok (.aload_n 0, 1) := dk_42 (dk_at dksX4_init_1 14 rfl rfl)
theorem dX4_init_39 : decode cX4_init 39 = .ok (.invokevirtual 38, 3) := dk_182 0 38 (dk_at dksX4_init_1 15 rfl rfl)
theorem dX4_init_42 : decode cX4_init 42 = .ok (.return_, 1) := dk_177 (dk_at dksX4_init_1 18 rfl rfl)
abbrev cX4_next : ByteArray := prog_8_method_3_code
def yX4_next : MethodName := ⟨RX4, "next", "()V"⟩
def dkwX4_next_10 : List UInt8 := [167, 0, 6, 178, 0, 78, 181, 0, 35, 42, 89, 180, 0, 41, 4, 96, 181, 0, 41, 177]
abbrev dktX4_next_10 : List UInt8 := dkwX4_next_10 ++ []
def dkwX4_next_9 : List UInt8 := [167, 0, 43, 42, 42, 180, 0, 3, 180, 0, 44, 42, 180, 0, 41, 51, 16, 59, 160, 0, 9, 178, 0, 75]
abbrev dktX4_next_9 : List UInt8 := dkwX4_next_9 ++ dktX4_next_10
def dkwX4_next_8 : List UInt8 := [181, 0, 62, 42, 89, 180, 0, 41, 4, 96, 181, 0, 41, 167, 255, 203, 42, 178, 0, 72, 181, 0, 35]
abbrev dktX4_next_8 : List UInt8 := dkwX4_next_8 ++ dktX4_next_9
def dkwX4_next_7 : List UInt8 := [180, 0, 62, 104, 42, 180, 0, 3, 180, 0, 44, 42, 180, 0, 41, 51, 96, 16, 48, 100, 184, 0, 66]
abbrev dktX4_next_7 : List UInt8 := dkwX4_next_7 ++ dktX4_next_8
def dkwX4_next_6 : List UInt8 := [42, 3, 181, 0, 62, 42, 16, 48, 16, 57, 182, 0, 55, 153, 0, 48, 42, 18, 65, 16, 10, 42]
abbrev dktX4_next_6 : List UInt8 := dkwX4_next_6 ++ dktX4_next_7
def dkwX4_next_5 : List UInt8 := [167, 255, 235, 42, 178, 0, 59, 181, 0, 35, 167, 0, 125, 42, 16, 48, 16, 57, 182, 0, 55, 153, 0, 74]
abbrev dktX4_next_5 : List UInt8 := dkwX4_next_5 ++ dktX4_next_6
def dkwX4_next_4 : List UInt8 := [153, 0, 37, 42, 16, 97, 16, 122, 182, 0, 55, 153, 0, 16, 42, 89, 180, 0, 41, 4, 96, 181, 0, 41]
abbrev dktX4_next_4 : List UInt8 := dkwX4_next_4 ++ dktX4_next_5
def dkwX4_next_3 : List UInt8 := [180, 0, 19, 160, 0, 13, 42, 178, 0, 29, 181, 0, 35, 167, 0, 170, 42, 16, 97, 16, 122, 182, 0, 55]
abbrev dktX4_next_3 : List UInt8 := dkwX4_next_3 ++ dktX4_next_4
def dkwX4_next_2 : List UInt8 := [180, 0, 41, 4, 96, 181, 0, 41, 167, 255, 201, 42, 42, 180, 0, 41, 181, 0, 52, 42, 180, 0, 41, 42]
abbrev dktX4_next_2 : List UInt8 := dkwX4_next_2 ++ dktX4_next_3
def dkwX4_next_1 : List UInt8 := [16, 32, 159, 0, 20, 42, 180, 0, 3, 180, 0, 44, 42, 180, 0, 41, 51, 16, 10, 160, 0, 16, 42, 89]
abbrev dktX4_next_1 : List UInt8 := dkwX4_next_1 ++ dktX4_next_2
def dkwX4_next_0 : List UInt8 := [42, 180, 0, 41, 42, 180, 0, 19, 162, 0, 50, 42, 180, 0, 3, 180, 0, 44, 42, 180, 0, 41, 51]
abbrev dktX4_next_0 : List UInt8 := dkwX4_next_0 ++ dktX4_next_1
theorem dksX4_next_0 : cX4_next.data.toList.drop 0 = dktX4_next_0 := by decide +kernel
theorem dksX4_next_1 : cX4_next.data.toList.drop 23 = dktX4_next_1 := dk_seg dksX4_next_0 23 rfl rfl
theorem dksX4_next_2 : cX4_next.data.toList.drop 47 = dktX4_next_2 := dk_seg dksX4_next_1 24 rfl rfl
theorem dksX4_next_3 : cX4_next.data.toList.drop 71 = dktX4_next_3 := dk_seg dksX4_next_2 24 rfl rfl
theorem dksX4_next_4 : cX4_next.data.toList.drop 95 = dktX4_next_4 := dk_seg dksX4_next_3 24 rfl rfl
theorem dksX4_next_5 : cX4_next.data.toList.drop 119 = dktX4_next_5 := dk_seg dksX4_next_4 24 rfl rfl
theorem dksX4_next_6 : cX4_next.data.toList.drop 143 = dktX4_next_6 := dk_seg dksX4_next_5 24 rfl rfl
theorem dksX4_next_7 : cX4_next.data.toList.drop 165 = dktX4_next_7 := dk_seg dksX4_next_6 22 rfl rfl
theorem dksX4_next_8 : cX4_next.data.toList.drop 188 = dktX4_next_8 := dk_seg dksX4_next_7 23 rfl rfl
theorem dksX4_next_9 : cX4_next.data.toList.drop 211 = dktX4_next_9 := dk_seg dksX4_next_8 23 rfl rfl
theorem dksX4_next_10 : cX4_next.data.toList.drop 235 = dktX4_next_10 := dk_seg dksX4_next_9 24 rfl rfl
theorem dX4_next_0 : decode cX4_next 0 = .ok (.aload_n 0, 1) := dk_42 (dk_at dksX4_next_0 0 rfl rfl)
theorem dX4_next_1 : decode cX4_next 1 = .ok (.getfield 41, 3) := dk_180 0 41 (dk_at dksX4_next_0 1 rfl rfl)
theorem dX4_next_4 : decode cX4_next 4 = .ok (.aload_n 0, 1) := dk_42 (dk_at dksX4_next_0 4 rfl rfl)
theorem dX4_next_5 : decode cX4_next 5 = .ok (.getfield 19, 3) := dk_180 0 19 (dk_at dksX4_next_0 5 rfl rfl)
theorem dX4_next_8 : decode cX4_next 8 = .ok (.if_icmp .ge 50, 3) := dk_162 0 50 (dk_at dksX4_next_0 8 rfl rfl)
theorem dX4_next_11 : decode cX4_next 11 = .ok (.aload_n 0, 1) := dk_42 (dk_at dksX4_next_0 11 rfl rfl)
theorem dX4_next_12 : decode cX4_next 12 = .ok (.getfield 3, 3) := dk_180 0 3 (dk_at dksX4_next_0 12 rfl rfl)
theorem dX4_next_15 : decode cX4_next 15 = .ok (.getfield 44, 3) := dk_180 0 44 (dk_at dksX4_next_0 15 rfl rfl)
theorem dX4_next_18 : decode cX4_next 18 = .ok (.aload_n 0, 1) := dk_42 (dk_at dksX4_next_0 18 rfl rfl)
theorem dX4_next_19 : decode cX4_next 19 = .ok (.getfield 41, 3) := dk_180 0 41 (dk_at dksX4_next_0 19 rfl rfl)
theorem dX4_next_22 : decode cX4_next 22 = .ok (.baload, 1) := dk_51 (dk_at dksX4_next_0 22 rfl rfl)
theorem dX4_next_23 : decode cX4_next 23 = .ok (.bipush 32, 2) := dk_16 32 (dk_at dksX4_next_1 0 rfl rfl)
theorem dX4_next_25 : decode cX4_next 25 = .ok (.if_icmp .eq 20, 3) := dk_159 0 20 (dk_at dksX4_next_1 2 rfl rfl)
theorem dX4_next_28 : decode cX4_next 28 = .ok (.aload_n 0, 1) := dk_42 (dk_at dksX4_next_1 5 rfl rfl)
theorem dX4_next_29 : decode cX4_next 29 = .ok (.getfield 3, 3) := dk_180 0 3 (dk_at dksX4_next_1 6 rfl rfl)
theorem dX4_next_32 : decode cX4_next 32 = .ok (.getfield 44, 3) := dk_180 0 44 (dk_at dksX4_next_1 9 rfl rfl)
theorem dX4_next_35 : decode cX4_next 35 = .ok (.aload_n 0, 1) := dk_42 (dk_at dksX4_next_1 12 rfl rfl)
theorem dX4_next_36 : decode cX4_next 36 = .ok (.getfield 41, 3) := dk_180 0 41 (dk_at dksX4_next_1 13 rfl rfl)
theorem dX4_next_39 : decode cX4_next 39 = .ok (.baload, 1) := dk_51 (dk_at dksX4_next_1 16 rfl rfl)
theorem dX4_next_40 : decode cX4_next 40 = .ok (.bipush 10, 2) := dk_16 10 (dk_at dksX4_next_1 17 rfl rfl)
theorem dX4_next_42 : decode cX4_next 42 = .ok (.if_icmp .ne 16, 3) := dk_160 0 16 (dk_at dksX4_next_1 19 rfl rfl)
theorem dX4_next_45 : decode cX4_next 45 = .ok (.aload_n 0, 1) := dk_42 (dk_at dksX4_next_1 22 rfl rfl)
theorem dX4_next_46 : decode cX4_next 46 = .ok (.dup, 1) := dk_89 (dk_at dksX4_next_1 23 rfl rfl)
theorem dX4_next_47 : decode cX4_next 47 = .ok (.getfield 41, 3) := dk_180 0 41 (dk_at dksX4_next_2 0 rfl rfl)
theorem dX4_next_50 : decode cX4_next 50 = .ok (.iconst 1, 1) := dk_4 (dk_at dksX4_next_2 3 rfl rfl)
theorem dX4_next_51 : decode cX4_next 51 = .ok (.iadd, 1) := dk_96 (dk_at dksX4_next_2 4 rfl rfl)
theorem dX4_next_52 : decode cX4_next 52 = .ok (.putfield 41, 3) := dk_181 0 41 (dk_at dksX4_next_2 5 rfl rfl)
theorem dX4_next_55 : decode cX4_next 55 = .ok (.goto (-55), 3) := dk_167 255 201 (dk_at dksX4_next_2 8 rfl rfl)
theorem dX4_next_58 : decode cX4_next 58 = .ok (.aload_n 0, 1) := dk_42 (dk_at dksX4_next_2 11 rfl rfl)
theorem dX4_next_59 : decode cX4_next 59 = .ok (.aload_n 0, 1) := dk_42 (dk_at dksX4_next_2 12 rfl rfl)
theorem dX4_next_60 : decode cX4_next 60 = .ok (.getfield 41, 3) := dk_180 0 41 (dk_at dksX4_next_2 13 rfl rfl)
theorem dX4_next_63 : decode cX4_next 63 = .ok (.putfield 52, 3) := dk_181 0 52 (dk_at dksX4_next_2 16 rfl rfl)
theorem dX4_next_66 : decode cX4_next 66 = .ok (.aload_n 0, 1) := dk_42 (dk_at dksX4_next_2 19 rfl rfl)
theorem dX4_next_67 : decode cX4_next 67 = .ok (.getfield 41, 3) := dk_180 0 41 (dk_at dksX4_next_2 20 rfl rfl)
theorem dX4_next_70 : decode cX4_next 70 = .ok (.aload_n 0, 1) := dk_42 (dk_at dksX4_next_2 23 rfl rfl)
theorem dX4_next_71 : decode cX4_next 71 = .ok (.getfield 19, 3) := dk_180 0 19 (dk_at dksX4_next_3 0 rfl rfl)
theorem dX4_next_74 : decode cX4_next 74 = .ok (.if_icmp .ne 13, 3) := dk_160 0 13 (dk_at dksX4_next_3 3 rfl rfl)
theorem dX4_next_77 : decode cX4_next 77 = .ok (.aload_n 0, 1) := dk_42 (dk_at dksX4_next_3 6 rfl rfl)
theorem dX4_next_78 : decode cX4_next 78 = .ok (.getstatic 29, 3) := dk_178 0 29 (dk_at dksX4_next_3 7 rfl rfl)
theorem dX4_next_81 : decode cX4_next 81 = .ok (.putfield 35, 3) := dk_181 0 35 (dk_at dksX4_next_3 10 rfl rfl)
theorem dX4_next_84 : decode cX4_next 84 = .ok (.goto 170, 3) := dk_167 0 170 (dk_at dksX4_next_3 13 rfl rfl)
theorem dX4_next_87 : decode cX4_next 87 = .ok (.aload_n 0, 1) := dk_42 (dk_at dksX4_next_3 16 rfl rfl)
theorem dX4_next_88 : decode cX4_next 88 = .ok (.bipush 97, 2) := dk_16 97 (dk_at dksX4_next_3 17 rfl rfl)
theorem dX4_next_90 : decode cX4_next 90 = .ok (.bipush 122, 2) := dk_16 122 (dk_at dksX4_next_3 19 rfl rfl)
theorem dX4_next_92 : decode cX4_next 92 = .ok (.invokevirtual 55, 3) := dk_182 0 55 (dk_at dksX4_next_3 21 rfl rfl)
theorem dX4_next_95 : decode cX4_next 95 = .ok (.ifCond .eq 37, 3) := dk_153 0 37 (dk_at dksX4_next_4 0 rfl rfl)
theorem dX4_next_98 : decode cX4_next 98 = .ok (.aload_n 0, 1) := dk_42 (dk_at dksX4_next_4 3 rfl rfl)
theorem dX4_next_99 : decode cX4_next 99 = .ok (.bipush 97, 2) := dk_16 97 (dk_at dksX4_next_4 4 rfl rfl)
theorem dX4_next_101 : decode cX4_next 101 = .ok (.bipush 122, 2) := dk_16 122 (dk_at dksX4_next_4 6 rfl rfl)
theorem dX4_next_103 : decode cX4_next 103 = .ok (.invokevirtual 55, 3) := dk_182 0 55 (dk_at dksX4_next_4 8 rfl rfl)
theorem dX4_next_106 : decode cX4_next 106 = .ok (.ifCond .eq 16, 3) := dk_153 0 16 (dk_at dksX4_next_4 11 rfl rfl)
theorem dX4_next_109 : decode cX4_next 109 = .ok (.aload_n 0, 1) := dk_42 (dk_at dksX4_next_4 14 rfl rfl)
theorem dX4_next_110 : decode cX4_next 110 = .ok (.dup, 1) := dk_89 (dk_at dksX4_next_4 15 rfl rfl)
theorem dX4_next_111 : decode cX4_next 111 = .ok (.getfield 41, 3) := dk_180 0 41 (dk_at dksX4_next_4 16 rfl rfl)
theorem dX4_next_114 : decode cX4_next 114 = .ok (.iconst 1, 1) := dk_4 (dk_at dksX4_next_4 19 rfl rfl)
theorem dX4_next_115 : decode cX4_next 115 = .ok (.iadd, 1) := dk_96 (dk_at dksX4_next_4 20 rfl rfl)
theorem dX4_next_116 : decode cX4_next 116 = .ok (.putfield 41, 3) := dk_181 0 41 (dk_at dksX4_next_4 21 rfl rfl)
theorem dX4_next_119 : decode cX4_next 119 = .ok (.goto (-21), 3) := dk_167 255 235 (dk_at dksX4_next_5 0 rfl rfl)
theorem dX4_next_122 : decode cX4_next 122 = .ok (.aload_n 0, 1) := dk_42 (dk_at dksX4_next_5 3 rfl rfl)
theorem dX4_next_123 : decode cX4_next 123 = .ok (.getstatic 59, 3) := dk_178 0 59 (dk_at dksX4_next_5 4 rfl rfl)
theorem dX4_next_126 : decode cX4_next 126 = .ok (.putfield 35, 3) := dk_181 0 35 (dk_at dksX4_next_5 7 rfl rfl)
theorem dX4_next_129 : decode cX4_next 129 = .ok (.goto 125, 3) := dk_167 0 125 (dk_at dksX4_next_5 10 rfl rfl)
theorem dX4_next_132 : decode cX4_next 132 = .ok (.aload_n 0, 1) := dk_42 (dk_at dksX4_next_5 13 rfl rfl)
theorem dX4_next_133 : decode cX4_next 133 = .ok (.bipush 48, 2) := dk_16 48 (dk_at dksX4_next_5 14 rfl rfl)
theorem dX4_next_135 : decode cX4_next 135 = .ok (.bipush 57, 2) := dk_16 57 (dk_at dksX4_next_5 16 rfl rfl)
theorem dX4_next_137 : decode cX4_next 137 = .ok (.invokevirtual 55, 3) := dk_182 0 55 (dk_at dksX4_next_5 18 rfl rfl)
theorem dX4_next_140 : decode cX4_next 140 = .ok (.ifCond .eq 74, 3) := dk_153 0 74 (dk_at dksX4_next_5 21 rfl rfl)
theorem dX4_next_143 : decode cX4_next 143 = .ok (.aload_n 0, 1) := dk_42 (dk_at dksX4_next_6 0 rfl rfl)
theorem dX4_next_144 : decode cX4_next 144 = .ok (.iconst 0, 1) := dk_3 (dk_at dksX4_next_6 1 rfl rfl)
theorem dX4_next_145 : decode cX4_next 145 = .ok (.putfield 62, 3) := dk_181 0 62 (dk_at dksX4_next_6 2 rfl rfl)
theorem dX4_next_148 : decode cX4_next 148 = .ok (.aload_n 0, 1) := dk_42 (dk_at dksX4_next_6 5 rfl rfl)
theorem dX4_next_149 : decode cX4_next 149 = .ok (.bipush 48, 2) := dk_16 48 (dk_at dksX4_next_6 6 rfl rfl)
theorem dX4_next_151 : decode cX4_next 151 = .ok (.bipush 57, 2) := dk_16 57 (dk_at dksX4_next_6 8 rfl rfl)
theorem dX4_next_153 : decode cX4_next 153 = .ok (.invokevirtual 55, 3) := dk_182 0 55 (dk_at dksX4_next_6 10 rfl rfl)
theorem dX4_next_156 : decode cX4_next 156 = .ok (.ifCond .eq 48, 3) := dk_153 0 48 (dk_at dksX4_next_6 13 rfl rfl)
theorem dX4_next_159 : decode cX4_next 159 = .ok (.aload_n 0, 1) := dk_42 (dk_at dksX4_next_6 16 rfl rfl)
theorem dX4_next_160 : decode cX4_next 160 = .ok (.ldc 65, 2) := dk_18 65 (dk_at dksX4_next_6 17 rfl rfl)
theorem dX4_next_162 : decode cX4_next 162 = .ok (.bipush 10, 2) := dk_16 10 (dk_at dksX4_next_6 19 rfl rfl)
theorem dX4_next_164 : decode cX4_next 164 = .ok (.aload_n 0, 1) := dk_42 (dk_at dksX4_next_6 21 rfl rfl)
theorem dX4_next_165 : decode cX4_next 165 = .ok (.getfield 62, 3) := dk_180 0 62 (dk_at dksX4_next_7 0 rfl rfl)
theorem dX4_next_168 : decode cX4_next 168 = .ok (.imul, 1) := dk_104 (dk_at dksX4_next_7 3 rfl rfl)
theorem dX4_next_169 : decode cX4_next 169 = .ok (.aload_n 0, 1) := dk_42 (dk_at dksX4_next_7 4 rfl rfl)
theorem dX4_next_170 : decode cX4_next 170 = .ok (.getfield 3, 3) := dk_180 0 3 (dk_at dksX4_next_7 5 rfl rfl)
theorem dX4_next_173 : decode cX4_next 173 = .ok (.getfield 44, 3) := dk_180 0 44 (dk_at dksX4_next_7 8 rfl rfl)
theorem dX4_next_176 : decode cX4_next 176 = .ok (.aload_n 0, 1) := dk_42 (dk_at dksX4_next_7 11 rfl rfl)
theorem dX4_next_177 : decode cX4_next 177 = .ok (.getfield 41, 3) := dk_180 0 41 (dk_at dksX4_next_7 12 rfl rfl)
theorem dX4_next_180 : decode cX4_next 180 = .ok (.baload, 1) := dk_51 (dk_at dksX4_next_7 15 rfl rfl)
theorem dX4_next_181 : decode cX4_next 181 = .ok (.iadd, 1) := dk_96 (dk_at dksX4_next_7 16 rfl rfl)
theorem dX4_next_182 : decode cX4_next 182 = .ok (.bipush 48, 2) := dk_16 48 (dk_at dksX4_next_7 17 rfl rfl)
theorem dX4_next_184 : decode cX4_next 184 = .ok (.isub, 1) := dk_100 (dk_at dksX4_next_7 19 rfl rfl)
theorem dX4_next_185 : decode cX4_next 185 = .ok (.invokestatic 66, 3) := dk_184 0 66 (dk_at dksX4_next_7 20 rfl rfl)
theorem dX4_next_188 : decode cX4_next 188 = .ok (.putfield 62, 3) := dk_181 0 62 (dk_at dksX4_next_8 0 rfl rfl)
theorem dX4_next_191 : decode cX4_next 191 = .ok (.aload_n 0, 1) := dk_42 (dk_at dksX4_next_8 3 rfl rfl)
theorem dX4_next_192 : decode cX4_next 192 = .ok (.dup, 1) := dk_89 (dk_at dksX4_next_8 4 rfl rfl)
theorem dX4_next_193 : decode cX4_next 193 = .ok (.getfield 41, 3) := dk_180 0 41 (dk_at dksX4_next_8 5 rfl rfl)
theorem dX4_next_196 : decode cX4_next 196 = .ok (.iconst 1, 1) := dk_4 (dk_at dksX4_next_8 8 rfl rfl)
theorem dX4_next_197 : decode cX4_next 197 = .ok (.iadd, 1) := dk_96 (dk_at dksX4_next_8 9 rfl rfl)
theorem dX4_next_198 : decode cX4_next 198 = .ok (.putfield 41, 3) := dk_181 0 41 (dk_at dksX4_next_8 10 rfl rfl)
theorem dX4_next_201 : decode cX4_next 201 = .ok (.goto (-53), 3) := dk_167 255 203 (dk_at dksX4_next_8 13 rfl rfl)
theorem dX4_next_204 : decode cX4_next 204 = .ok (.aload_n 0, 1) := dk_42 (dk_at dksX4_next_8 16 rfl rfl)
theorem dX4_next_205 : decode cX4_next 205 = .ok (.getstatic 72, 3) := dk_178 0 72 (dk_at dksX4_next_8 17 rfl rfl)
theorem dX4_next_208 : decode cX4_next 208 = .ok (.putfield 35, 3) := dk_181 0 35 (dk_at dksX4_next_8 20 rfl rfl)
theorem dX4_next_211 : decode cX4_next 211 = .ok (.goto 43, 3) := dk_167 0 43 (dk_at dksX4_next_9 0 rfl rfl)
theorem dX4_next_214 : decode cX4_next 214 = .ok (.aload_n 0, 1) := dk_42 (dk_at dksX4_next_9 3 rfl rfl)
theorem dX4_next_215 : decode cX4_next 215 = .ok (.aload_n 0, 1) := dk_42 (dk_at dksX4_next_9 4 rfl rfl)
theorem dX4_next_216 : decode cX4_next 216 = .ok (.getfield 3, 3) := dk_180 0 3 (dk_at dksX4_next_9 5 rfl rfl)
theorem dX4_next_219 : decode cX4_next 219 = .ok (.getfield 44, 3) := dk_180 0 44 (dk_at dksX4_next_9 8 rfl rfl)
theorem dX4_next_222 : decode cX4_next 222 = .ok (.aload_n 0, 1) := dk_42 (dk_at dksX4_next_9 11 rfl rfl)
theorem dX4_next_223 : decode cX4_next 223 = .ok (.getfield 41, 3) := dk_180 0 41 (dk_at dksX4_next_9 12 rfl rfl)
theorem dX4_next_226 : decode cX4_next 226 = .ok (.baload, 1) := dk_51 (dk_at dksX4_next_9 15 rfl rfl)
theorem dX4_next_227 : decode cX4_next 227 = .ok (.bipush 59, 2) := dk_16 59 (dk_at dksX4_next_9 16 rfl rfl)
theorem dX4_next_229 : decode cX4_next 229 = .ok (.if_icmp .ne 9, 3) := dk_160 0 9 (dk_at dksX4_next_9 18 rfl rfl)
theorem dX4_next_232 : decode cX4_next 232 = .ok (.getstatic 75, 3) := dk_178 0 75 (dk_at dksX4_next_9 21 rfl rfl)
theorem dX4_next_235 : decode cX4_next 235 = .ok (.goto 6, 3) := dk_167 0 6 (dk_at dksX4_next_10 0 rfl rfl)
theorem dX4_next_238 : decode cX4_next 238 = .ok (.getstatic 78, 3) := dk_178 0 78 (dk_at dksX4_next_10 3 rfl rfl)
theorem dX4_next_241 : decode cX4_next 241 = .ok (.putfield 35, 3) := dk_181 0 35 (dk_at dksX4_next_10 6 rfl rfl)
theorem dX4_next_244 : decode cX4_next 244 = .ok (.aload_n 0, 1) := dk_42 (dk_at dksX4_next_10 9 rfl rfl)
theorem dX4_next_245 : decode cX4_next 245 = .ok (.dup, 1) := dk_89 (dk_at dksX4_next_10 10 rfl rfl)
theorem dX4_next_246 : decode cX4_next 246 = .ok (.getfield 41, 3) := dk_180 0 41 (dk_at dksX4_next_10 11 rfl rfl)
theorem dX4_next_249 : decode cX4_next 249 = .ok (.iconst 1, 1) := dk_4 (dk_at dksX4_next_10 14 rfl rfl)
theorem dX4_next_250 : decode cX4_next 250 = .ok (.iadd, 1) := dk_96 (dk_at dksX4_next_10 15 rfl rfl)
theorem dX4_next_251 : decode cX4_next 251 = .ok (.putfield 41, 3) := dk_181 0 41 (dk_at dksX4_next_10 16 rfl rfl)
theorem dX4_next_254 : decode cX4_next 254 = .ok (.return_, 1) := dk_177 (dk_at dksX4_next_10 19 rfl rfl)
abbrev cX4_isNext : ByteArray := prog_8_method_2_code
def yX4_isNext : MethodName := ⟨RX4, "isNext", "(II)Z"⟩
def dkwX4_isNext_1 : List UInt8 := [27, 133, 28, 133, 184, 0, 48, 153, 0, 7, 4, 167, 0, 4, 3, 172]
abbrev dktX4_isNext_1 : List UInt8 := dkwX4_isNext_1 ++ []
def dkwX4_isNext_0 : List UInt8 := [42, 180, 0, 41, 42, 180, 0, 19, 162, 0, 30, 42, 180, 0, 3, 180, 0, 44, 42, 180, 0, 41, 51, 133]
abbrev dktX4_isNext_0 : List UInt8 := dkwX4_isNext_0 ++ dktX4_isNext_1
theorem dksX4_isNext_0 : cX4_isNext.data.toList.drop 0 = dktX4_isNext_0 := by decide +kernel
theorem dksX4_isNext_1 : cX4_isNext.data.toList.drop 24 = dktX4_isNext_1 := dk_seg dksX4_isNext_0 24 rfl rfl
theorem dX4_isNext_0 : decode cX4_isNext 0 = .ok (.aload_n 0, 1) := dk_42 (dk_at dksX4_isNext_0 0 rfl rfl)
theorem dX4_isNext_1 : decode cX4_isNext 1 = .ok (.getfield 41, 3) := dk_180 0 41 (dk_at dksX4_isNext_0 1 rfl rfl)
theorem dX4_isNext_4 : decode cX4_isNext 4 = .ok (.aload_n 0, 1) := dk_42 (dk_at dksX4_isNext_0 4 rfl rfl)
theorem dX4_isNext_5 : decode cX4_isNext 5 = .ok (.getfield 19, 3) := dk_180 0 19 (dk_at dksX4_isNext_0 5 rfl rfl)
theorem dX4_isNext_8 : decode cX4_isNext 8 = .ok (.if_icmp .ge 30, 3) := dk_162 0 30 (dk_at dksX4_isNext_0 8 rfl rfl)
theorem dX4_isNext_11 : decode cX4_isNext 11 = .ok (.aload_n 0, 1) := dk_42 (dk_at dksX4_isNext_0 11 rfl rfl)
theorem dX4_isNext_12 : decode cX4_isNext 12 = .ok (.getfield 3, 3) := dk_180 0 3 (dk_at dksX4_isNext_0 12 rfl rfl)
theorem dX4_isNext_15 : decode cX4_isNext 15 = .ok (.getfield 44, 3) := dk_180 0 44 (dk_at dksX4_isNext_0 15 rfl rfl)
theorem dX4_isNext_18 : decode cX4_isNext 18 = .ok (.aload_n 0, 1) := dk_42 (dk_at dksX4_isNext_0 18 rfl rfl)
theorem dX4_isNext_19 : decode cX4_isNext 19 = .ok (.getfield 41, 3) := dk_180 0 41 (dk_at dksX4_isNext_0 19 rfl rfl)
theorem dX4_isNext_22 : decode cX4_isNext 22 = .ok (.baload, 1) := dk_51 (dk_at dksX4_isNext_0 22 rfl rfl)
theorem dX4_isNext_23 : decode cX4_isNext 23 = .ok (.i2l, 1) := dk_133 (dk_at dksX4_isNext_0 23 rfl rfl)
theorem dX4_isNext_24 : decode cX4_isNext 24 = .ok (.iload_n 1, 1) := dk_27 (dk_at dksX4_isNext_1 0 rfl rfl)
theorem dX4_isNext_25 : decode cX4_isNext 25 = .ok (.i2l, 1) := dk_133 (dk_at dksX4_isNext_1 1 rfl rfl)
theorem dX4_isNext_26 : decode cX4_isNext 26 = .ok (.iload_n 2, 1) := dk_28 (dk_at dksX4_isNext_1 2 rfl rfl)
theorem dX4_isNext_27 : decode cX4_isNext 27 = .ok (.i2l, 1) := dk_133 (dk_at dksX4_isNext_1 3 rfl rfl)
theorem dX4_isNext_28 : decode cX4_isNext 28 = .ok (.invokestatic 48, 3) := dk_184 0 48 (dk_at dksX4_isNext_1 4 rfl rfl)
theorem dX4_isNext_31 : decode cX4_isNext 31 = .ok (.ifCond .eq 7, 3) := dk_153 0 7 (dk_at dksX4_isNext_1 7 rfl rfl)
theorem dX4_isNext_34 : decode cX4_isNext 34 = .ok (.iconst 1, 1) := dk_4 (dk_at dksX4_isNext_1 10 rfl rfl)
theorem dX4_isNext_35 : decode cX4_isNext 35 = .ok (.goto 4, 3) := dk_167 0 4 (dk_at dksX4_isNext_1 11 rfl rfl)
theorem dX4_isNext_38 : decode cX4_isNext 38 = .ok (.iconst 0, 1) := dk_3 (dk_at dksX4_isNext_1 14 rfl rfl)
theorem dX4_isNext_39 : decode cX4_isNext 39 = .ok (.ireturn, 1) := dk_172 (dk_at dksX4_isNext_1 15 rfl rfl)
abbrev cX4_read : ByteArray := prog_8_method_14_code
def yX4_read : MethodName := ⟨RX4, "read", "()LCardHolder$City;"⟩
def dkwX4_read_3 : List UInt8 := [180, 0, 25, 89, 180, 0, 162, 4, 96, 181, 0, 162, 167, 255, 174, 42, 180, 0, 25, 176]
abbrev dktX4_read_3 : List UInt8 := dkwX4_read_3 ++ []
def dkwX4_read_2 : List UInt8 := [182, 0, 170, 42, 180, 0, 35, 178, 0, 75, 165, 0, 9, 42, 4, 182, 0, 103, 191, 42, 182, 0, 38, 42]
abbrev dktX4_read_2 : List UInt8 := dkwX4_read_2 ++ dktX4_read_3
def dkwX4_read_1 : List UInt8 := [182, 0, 107, 42, 180, 0, 25, 42, 18, 166, 4, 16, 9, 182, 0, 122, 181, 0, 168, 167, 0, 7, 42]
abbrev dktX4_read_1 : List UInt8 := dkwX4_read_1 ++ dktX4_read_2
def dkwX4_read_0 : List UInt8 := [42, 180, 0, 35, 178, 0, 29, 165, 0, 78, 42, 180, 0, 25, 180, 0, 162, 154, 0, 28, 42, 18, 165]
abbrev dktX4_read_0 : List UInt8 := dkwX4_read_0 ++ dktX4_read_1
theorem dksX4_read_0 : cX4_read.data.toList.drop 0 = dktX4_read_0 := by decide +kernel
theorem dksX4_read_1 : cX4_read.data.toList.drop 23 = dktX4_read_1 := dk_seg dksX4_read_0 23 rfl rfl
theorem dksX4_read_2 : cX4_read.data.toList.drop 46 = dktX4_read_2 := dk_seg dksX4_read_1 23 rfl rfl
theorem dksX4_read_3 : cX4_read.data.toList.drop 70 = dktX4_read_3 := dk_seg dksX4_read_2 24 rfl rfl
theorem dX4_read_0 : decode cX4_read 0 = .ok (.aload_n 0, 1) := dk_42 (dk_at dksX4_read_0 0 rfl rfl)
theorem dX4_read_1 : decode cX4_read 1 = .ok (.getfield 35, 3) := dk_180 0 35 (dk_at dksX4_read_0 1 rfl rfl)
theorem dX4_read_4 : decode cX4_read 4 = .ok (.getstatic 29, 3) := dk_178 0 29 (dk_at dksX4_read_0 4 rfl rfl)
theorem dX4_read_7 : decode cX4_read 7 = .ok (.if_acmp .eq 78, 3) := dk_165 0 78 (dk_at dksX4_read_0 7 rfl rfl)
theorem dX4_read_10 : decode cX4_read 10 = .ok (.aload_n 0, 1) := dk_42 (dk_at dksX4_read_0 10 rfl rfl)
theorem dX4_read_11 : decode cX4_read 11 = .ok (.getfield 25, 3) := dk_180 0 25 (dk_at dksX4_read_0 11 rfl rfl)
theorem dX4_read_14 : decode cX4_read 14 = .ok (.getfield 162, 3) := dk_180 0 162 (dk_at dksX4_read_0 14 rfl rfl)
theorem dX4_read_17 : decode cX4_read 17 = .ok (.ifCond .ne 28, 3) := dk_154 0 28 (dk_at dksX4_read_0 17 rfl rfl)
theorem dX4_read_20 : decode cX4_read 20 = .ok (.aload_n 0, 1) := dk_42 (dk_at dksX4_read_0 20 rfl rfl)
theorem dX4_read_21 : decode cX4_read 21 = .ok (.ldc 165, 2) := dk_18 165 (dk_at dksX4_read_0 21 rfl rfl)
theorem dX4_read_23 : decode cX4_read 23 = .ok (.invokevirtual 107, 3) := dk_182 0 107 (dk_at dksX4_read_1 0 rfl rfl)
theorem dX4_read_26 : decode cX4_read 26 = .ok (.aload_n 0, 1) := dk_42 (dk_at dksX4_read_1 3 rfl rfl)
theorem dX4_read_27 : decode cX4_read 27 = .ok (.getfield 25, 3) := dk_180 0 25 (dk_at dksX4_read_1 4 rfl rfl)
theorem dX4_read_30 : decode cX4_read 30 = .ok (.aload_n 0, 1) := dk_42 (dk_at dksX4_read_1 7 rfl rfl)
theorem dX4_read_31 : decode cX4_read 31 = .ok (.ldc 166, 2) := dk_18 166 (dk_at dksX4_read_1 8 rfl rfl)
theorem dX4_read_33 : decode cX4_read 33 = .ok (.iconst 1, 1) := dk_4 (dk_at dksX4_read_1 10 rfl rfl)
theorem dX4_read_34 : decode cX4_read 34 = .ok (.bipush 9, 2) := dk_16 9 (dk_at dksX4_read_1 11 rfl rfl)
theorem dX4_read_36 : decode cX4_read 36 = .ok (.invokevirtual 122, 3) := dk_182 0 122 (dk_at dksX4_read_1 13 rfl rfl)
theorem dX4_read_39 : decode cX4_read 39 = .ok (.putfield 168, 3) := dk_181 0 168 (dk_at dksX4_read_1 16 rfl rfl)
theorem dX4_read_42 : decode cX4_read 42 = .ok (.goto 7, 3) := dk_167 0 7 (dk_at dksX4_read_1 19 rfl rfl)
theorem dX4_read_45 : decode cX4_read 45 = .ok (.aload_n 0, 1) := dk_42 (dk_at dksX4_read_1 22 rfl rfl)
theorem dX4_read_46 : decode cX4_read 46 = .ok (.invokevirtual 170, 3) := dk_182 0 170 (dk_at dksX4_read_2 0 rfl rfl)
theorem dX4_read_49 : decode cX4_read 49 = .ok (.aload_n 0, 1) := dk_42 (dk_at dksX4_read_2 3 rfl rfl)
theorem dX4_read_50 : decode cX4_read 50 = .ok (.getfield 35, 3) := dk_180 0 35 (dk_at dksX4_read_2 4 rfl rfl)
theorem dX4_read_53 : decode cX4_read 53 = .ok (.getstatic 75, 3) := dk_178 0 75 (dk_at dksX4_read_2 7 rfl rfl)
theorem dX4_read_56 : decode cX4_read 56 = .ok (.if_acmp .eq 9, 3) := dk_165 0 9 (dk_at dksX4_read_2 10 rfl rfl)
theorem dX4_read_59 : decode cX4_read 59 = .ok (.aload_n 0, 1) := dk_42 (dk_at dksX4_read_2 13 rfl rfl)
theorem dX4_read_60 : decode cX4_read 60 = .ok (.iconst 1, 1) := dk_4 (dk_at dksX4_read_2 14 rfl rfl)
theorem dX4_read_61 : decode cX4_read 61 = .ok (.invokevirtual 103, 3) := dk_182 0 103 (dk_at dksX4_read_2 15 rfl rfl)
theorem dX4_read_64 : decode cX4_read 64 = .ok (.athrow, 1) := dk_191 (dk_at dksX4_read_2 18 rfl rfl)
theorem dX4_read_65 : decode cX4_read 65 = .ok (.aload_n 0, 1) := dk_42 (dk_at dksX4_read_2 19 rfl rfl)
theorem dX4_read_66 : decode cX4_read 66 = .ok (.invokevirtual 38, 3) := dk_182 0 38 (dk_at dksX4_read_2 20 rfl rfl)
theorem dX4_read_69 : decode cX4_read 69 = .ok (.aload_n 0, 1) := dk_42 (dk_at dksX4_read_2 23 rfl rfl)
theorem dX4_read_70 : decode cX4_read 70 = .ok (.getfield 25, 3) := dk_180 0 25 (dk_at dksX4_read_3 0 rfl rfl)
theorem dX4_read_73 : decode cX4_read 73 = .ok (.dup, 1) := dk_89 (dk_at dksX4_read_3 3 rfl rfl)
theorem dX4_read_74 : decode cX4_read 74 = .ok (.getfield 162, 3) := dk_180 0 162 (dk_at dksX4_read_3 4 rfl rfl)
theorem dX4_read_77 : decode cX4_read 77 = .ok (.iconst 1, 1) := dk_4 (dk_at dksX4_read_3 7 rfl rfl)
theorem dX4_read_78 : decode cX4_read 78 = .ok (.iadd, 1) := dk_96 (dk_at dksX4_read_3 8 rfl rfl)
theorem dX4_read_79 : decode cX4_read 79 = .ok (.putfield 162, 3) := dk_181 0 162 (dk_at dksX4_read_3 9 rfl rfl)
theorem dX4_read_82 : decode cX4_read 82 = .ok (.goto (-82), 3) := dk_167 255 174 (dk_at dksX4_read_3 12 rfl rfl)
theorem dX4_read_85 : decode cX4_read 85 = .ok (.aload_n 0, 1) := dk_42 (dk_at dksX4_read_3 15 rfl rfl)
theorem dX4_read_86 : decode cX4_read 86 = .ok (.getfield 25, 3) := dk_180 0 25 (dk_at dksX4_read_3 16 rfl rfl)
theorem dX4_read_89 : decode cX4_read 89 = .ok (.areturn, 1) := dk_176 (dk_at dksX4_read_3 19 rfl rfl)
abbrev cX4_needs : ByteArray := prog_8_method_7_code
def yX4_needs : MethodName := ⟨RX4, "needs", "(Ljava/lang/String;)V"⟩
def dkwX4_needs_0 : List UInt8 := [42, 43, 182, 0, 100, 154, 0, 9, 42, 4, 182, 0, 103, 191, 177]
abbrev dktX4_needs_0 : List UInt8 := dkwX4_needs_0 ++ []
theorem dksX4_needs_0 : cX4_needs.data.toList.drop 0 = dktX4_needs_0 := by decide +kernel
theorem dX4_needs_0 : decode cX4_needs 0 = .ok (.aload_n 0, 1) := dk_42 (dk_at dksX4_needs_0 0 rfl rfl)
theorem dX4_needs_1 : decode cX4_needs 1 = .ok (.aload_n 1, 1) := dk_43 (dk_at dksX4_needs_0 1 rfl rfl)
theorem dX4_needs_2 : decode cX4_needs 2 = .ok (.invokevirtual 100, 3) := dk_182 0 100 (dk_at dksX4_needs_0 2 rfl rfl)
theorem dX4_needs_5 : decode cX4_needs 5 = .ok (.ifCond .ne 9, 3) := dk_154 0 9 (dk_at dksX4_needs_0 5 rfl rfl)
theorem dX4_needs_8 : decode cX4_needs 8 = .ok (.aload_n 0, 1) := dk_42 (dk_at dksX4_needs_0 8 rfl rfl)
theorem dX4_needs_9 : decode cX4_needs 9 = .ok (.iconst 1, 1) := dk_4 (dk_at dksX4_needs_0 9 rfl rfl)
theorem dX4_needs_10 : decode cX4_needs 10 = .ok (.invokevirtual 103, 3) := dk_182 0 103 (dk_at dksX4_needs_0 10 rfl rfl)
theorem dX4_needs_13 : decode cX4_needs 13 = .ok (.athrow, 1) := dk_191 (dk_at dksX4_needs_0 13 rfl rfl)
theorem dX4_needs_14 : decode cX4_needs 14 = .ok (.return_, 1) := dk_177 (dk_at dksX4_needs_0 14 rfl rfl)
abbrev cX4_takes : ByteArray := prog_8_method_6_code
def yX4_takes : MethodName := ⟨RX4, "takes", "(Ljava/lang/String;)Z"⟩
def dkwX4_takes_0 : List UInt8 := [42, 43, 182, 0, 96, 61, 28, 153, 0, 7, 42, 182, 0, 38, 28, 172]
abbrev dktX4_takes_0 : List UInt8 := dkwX4_takes_0 ++ []
theorem dksX4_takes_0 : cX4_takes.data.toList.drop 0 = dktX4_takes_0 := by decide +kernel
theorem dX4_takes_0 : decode cX4_takes 0 = .ok (.aload_n 0, 1) := dk_42 (dk_at dksX4_takes_0 0 rfl rfl)
theorem dX4_takes_1 : decode cX4_takes 1 = .ok (.aload_n 1, 1) := dk_43 (dk_at dksX4_takes_0 1 rfl rfl)
theorem dX4_takes_2 : decode cX4_takes 2 = .ok (.invokevirtual 96, 3) := dk_182 0 96 (dk_at dksX4_takes_0 2 rfl rfl)
theorem dX4_takes_5 : decode cX4_takes 5 = .ok (.istore_n 2, 1) := dk_61 (dk_at dksX4_takes_0 5 rfl rfl)
theorem dX4_takes_6 : decode cX4_takes 6 = .ok (.iload_n 2, 1) := dk_28 (dk_at dksX4_takes_0 6 rfl rfl)
theorem dX4_takes_7 : decode cX4_takes 7 = .ok (.ifCond .eq 7, 3) := dk_153 0 7 (dk_at dksX4_takes_0 7 rfl rfl)
theorem dX4_takes_10 : decode cX4_takes 10 = .ok (.aload_n 0, 1) := dk_42 (dk_at dksX4_takes_0 10 rfl rfl)
theorem dX4_takes_11 : decode cX4_takes 11 = .ok (.invokevirtual 38, 3) := dk_182 0 38 (dk_at dksX4_takes_0 11 rfl rfl)
theorem dX4_takes_14 : decode cX4_takes 14 = .ok (.iload_n 2, 1) := dk_28 (dk_at dksX4_takes_0 14 rfl rfl)
theorem dX4_takes_15 : decode cX4_takes 15 = .ok (.ireturn, 1) := dk_172 (dk_at dksX4_takes_0 15 rfl rfl)
abbrev cX4_is : ByteArray := prog_8_method_5_code
def yX4_is : MethodName := ⟨RX4, "is", "(Ljava/lang/String;)Z"⟩
def dkwX4_is_2 : List UInt8 := [180, 0, 52, 28, 96, 51, 43, 28, 182, 0, 92, 159, 0, 5, 3, 172, 132, 2, 1, 167, 255, 221, 4, 172]
abbrev dktX4_is_2 : List UInt8 := dkwX4_is_2 ++ []
def dkwX4_is_1 : List UInt8 := [159, 0, 5, 3, 172, 3, 61, 28, 43, 182, 0, 86, 162, 0, 33, 42, 180, 0, 3, 180, 0, 44, 42]
abbrev dktX4_is_1 : List UInt8 := dkwX4_is_1 ++ dktX4_is_2
def dkwX4_is_0 : List UInt8 := [42, 180, 0, 35, 178, 0, 59, 166, 0, 19, 42, 180, 0, 41, 42, 180, 0, 52, 100, 43, 182, 0, 86]
abbrev dktX4_is_0 : List UInt8 := dkwX4_is_0 ++ dktX4_is_1
theorem dksX4_is_0 : cX4_is.data.toList.drop 0 = dktX4_is_0 := by decide +kernel
theorem dksX4_is_1 : cX4_is.data.toList.drop 23 = dktX4_is_1 := dk_seg dksX4_is_0 23 rfl rfl
theorem dksX4_is_2 : cX4_is.data.toList.drop 46 = dktX4_is_2 := dk_seg dksX4_is_1 23 rfl rfl
theorem dX4_is_0 : decode cX4_is 0 = .ok (.aload_n 0, 1) := dk_42 (dk_at dksX4_is_0 0 rfl rfl)
theorem dX4_is_1 : decode cX4_is 1 = .ok (.getfield 35, 3) := dk_180 0 35 (dk_at dksX4_is_0 1 rfl rfl)
theorem dX4_is_4 : decode cX4_is 4 = .ok (.getstatic 59, 3) := dk_178 0 59 (dk_at dksX4_is_0 4 rfl rfl)
theorem dX4_is_7 : decode cX4_is 7 = .ok (.if_acmp .ne 19, 3) := dk_166 0 19 (dk_at dksX4_is_0 7 rfl rfl)
theorem dX4_is_10 : decode cX4_is 10 = .ok (.aload_n 0, 1) := dk_42 (dk_at dksX4_is_0 10 rfl rfl)
theorem dX4_is_11 : decode cX4_is 11 = .ok (.getfield 41, 3) := dk_180 0 41 (dk_at dksX4_is_0 11 rfl rfl)
theorem dX4_is_14 : decode cX4_is 14 = .ok (.aload_n 0, 1) := dk_42 (dk_at dksX4_is_0 14 rfl rfl)
theorem dX4_is_15 : decode cX4_is 15 = .ok (.getfield 52, 3) := dk_180 0 52 (dk_at dksX4_is_0 15 rfl rfl)
theorem dX4_is_18 : decode cX4_is 18 = .ok (.isub, 1) := dk_100 (dk_at dksX4_is_0 18 rfl rfl)
theorem dX4_is_19 : decode cX4_is 19 = .ok (.aload_n 1, 1) := dk_43 (dk_at dksX4_is_0 19 rfl rfl)
theorem dX4_is_20 : decode cX4_is 20 = .ok (.invokevirtual 86, 3) := dk_182 0 86 (dk_at dksX4_is_0 20 rfl rfl)
theorem dX4_is_23 : decode cX4_is 23 = .ok (.if_icmp .eq 5, 3) := dk_159 0 5 (dk_at dksX4_is_1 0 rfl rfl)
theorem dX4_is_26 : decode cX4_is 26 = .ok (.iconst 0, 1) := dk_3 (dk_at dksX4_is_1 3 rfl rfl)
theorem dX4_is_27 : decode cX4_is 27 = .ok (.ireturn, 1) := dk_172 (dk_at dksX4_is_1 4 rfl rfl)
theorem dX4_is_28 : decode cX4_is 28 = .ok (.iconst 0, 1) := dk_3 (dk_at dksX4_is_1 5 rfl rfl)
theorem dX4_is_29 : decode cX4_is 29 = .ok (.istore_n 2, 1) := dk_61 (dk_at dksX4_is_1 6 rfl rfl)
theorem dX4_is_30 : decode cX4_is 30 = .ok (.iload_n 2, 1) := dk_28 (dk_at dksX4_is_1 7 rfl rfl)
theorem dX4_is_31 : decode cX4_is 31 = .ok (.aload_n 1, 1) := dk_43 (dk_at dksX4_is_1 8 rfl rfl)
theorem dX4_is_32 : decode cX4_is 32 = .ok (.invokevirtual 86, 3) := dk_182 0 86 (dk_at dksX4_is_1 9 rfl rfl)
theorem dX4_is_35 : decode cX4_is 35 = .ok (.if_icmp .ge 33, 3) := dk_162 0 33 (dk_at dksX4_is_1 12 rfl rfl)
theorem dX4_is_38 : decode cX4_is 38 = .ok (.aload_n 0, 1) := dk_42 (dk_at dksX4_is_1 15 rfl rfl)
theorem dX4_is_39 : decode cX4_is 39 = .ok (.getfield 3, 3) := dk_180 0 3 (dk_at dksX4_is_1 16 rfl rfl)
theorem dX4_is_42 : decode cX4_is 42 = .ok (.getfield 44, 3) := dk_180 0 44 (dk_at dksX4_is_1 19 rfl rfl)
theorem dX4_is_45 : decode cX4_is 45 = .ok (.aload_n 0, 1) := dk_42 (dk_at dksX4_is_1 22 rfl rfl)
theorem dX4_is_46 : decode cX4_is 46 = .ok (.getfield 52, 3) := dk_180 0 52 (dk_at dksX4_is_2 0 rfl rfl)
theorem dX4_is_49 : decode cX4_is 49 = .ok (.iload_n 2, 1) := dk_28 (dk_at dksX4_is_2 3 rfl rfl)
theorem dX4_is_50 : decode cX4_is 50 = .ok (.iadd, 1) := dk_96 (dk_at dksX4_is_2 4 rfl rfl)
theorem dX4_is_51 : decode cX4_is 51 = .ok (.baload, 1) := dk_51 (dk_at dksX4_is_2 5 rfl rfl)
theorem dX4_is_52 : decode cX4_is 52 = .ok (.aload_n 1, 1) := dk_43 (dk_at dksX4_is_2 6 rfl rfl)
theorem dX4_is_53 : decode cX4_is 53 = .ok (.iload_n 2, 1) := dk_28 (dk_at dksX4_is_2 7 rfl rfl)
theorem dX4_is_54 : decode cX4_is 54 = .ok (.invokevirtual 92, 3) := dk_182 0 92 (dk_at dksX4_is_2 8 rfl rfl)
theorem dX4_is_57 : decode cX4_is 57 = .ok (.if_icmp .eq 5, 3) := dk_159 0 5 (dk_at dksX4_is_2 11 rfl rfl)
theorem dX4_is_60 : decode cX4_is 60 = .ok (.iconst 0, 1) := dk_3 (dk_at dksX4_is_2 14 rfl rfl)
theorem dX4_is_61 : decode cX4_is 61 = .ok (.ireturn, 1) := dk_172 (dk_at dksX4_is_2 15 rfl rfl)
theorem dX4_is_62 : decode cX4_is 62 = .ok (.iinc 2 1, 3) := dk_132 2 1 (dk_at dksX4_is_2 16 rfl rfl)
theorem dX4_is_65 : decode cX4_is 65 = .ok (.goto (-35), 3) := dk_167 255 221 (dk_at dksX4_is_2 19 rfl rfl)
theorem dX4_is_68 : decode cX4_is 68 = .ok (.iconst 1, 1) := dk_4 (dk_at dksX4_is_2 22 rfl rfl)
theorem dX4_is_69 : decode cX4_is 69 = .ok (.ireturn, 1) := dk_172 (dk_at dksX4_is_2 23 rfl rfl)
abbrev cX4_wrong : ByteArray := prog_8_method_4_code
def yX4_wrong : MethodName := ⟨RX4, "wrong", "(I)LCardHolder$Fault;"⟩
def dkwX4_wrong_0 : List UInt8 := [187, 0, 81, 89, 27, 42, 180, 0, 52, 183, 0, 83, 176]
abbrev dktX4_wrong_0 : List UInt8 := dkwX4_wrong_0 ++ []
theorem dksX4_wrong_0 : cX4_wrong.data.toList.drop 0 = dktX4_wrong_0 := by decide +kernel
theorem dX4_wrong_0 : decode cX4_wrong 0 = .ok (.new 81, 3) := dk_187 0 81 (dk_at dksX4_wrong_0 0 rfl rfl)
theorem dX4_wrong_3 : decode cX4_wrong 3 = .ok (.dup, 1) := dk_89 (dk_at dksX4_wrong_0 3 rfl rfl)
theorem dX4_wrong_4 : decode cX4_wrong 4 = .ok (.iload_n 1, 1) := dk_27 (dk_at dksX4_wrong_0 4 rfl rfl)
theorem dX4_wrong_5 : decode cX4_wrong 5 = .ok (.aload_n 0, 1) := dk_42 (dk_at dksX4_wrong_0 5 rfl rfl)
theorem dX4_wrong_6 : decode cX4_wrong 6 = .ok (.getfield 52, 3) := dk_180 0 52 (dk_at dksX4_wrong_0 6 rfl rfl)
theorem dX4_wrong_9 : decode cX4_wrong 9 = .ok (.invokespecial 83, 3) := dk_183 0 83 (dk_at dksX4_wrong_0 9 rfl rfl)
theorem dX4_wrong_12 : decode cX4_wrong 12 = .ok (.areturn, 1) := dk_176 (dk_at dksX4_wrong_0 12 rfl rfl)
abbrev cX4_told : ByteArray := prog_8_method_9_code
def yX4_told : MethodName := ⟨RX4, "told", "(Ljava/lang/String;II)I"⟩
def dkwX4_told_0 : List UInt8 := [42, 43, 182, 0, 107, 42, 28, 29, 182, 0, 111, 172]
abbrev dktX4_told_0 : List UInt8 := dkwX4_told_0 ++ []
theorem dksX4_told_0 : cX4_told.data.toList.drop 0 = dktX4_told_0 := by decide +kernel
theorem dX4_told_0 : decode cX4_told 0 = .ok (.aload_n 0, 1) := dk_42 (dk_at dksX4_told_0 0 rfl rfl)
theorem dX4_told_1 : decode cX4_told 1 = .ok (.aload_n 1, 1) := dk_43 (dk_at dksX4_told_0 1 rfl rfl)
theorem dX4_told_2 : decode cX4_told 2 = .ok (.invokevirtual 107, 3) := dk_182 0 107 (dk_at dksX4_told_0 2 rfl rfl)
theorem dX4_told_5 : decode cX4_told 5 = .ok (.aload_n 0, 1) := dk_42 (dk_at dksX4_told_0 5 rfl rfl)
theorem dX4_told_6 : decode cX4_told 6 = .ok (.iload_n 2, 1) := dk_28 (dk_at dksX4_told_0 6 rfl rfl)
theorem dX4_told_7 : decode cX4_told 7 = .ok (.iload_n 3, 1) := dk_29 (dk_at dksX4_told_0 7 rfl rfl)
theorem dX4_told_8 : decode cX4_told 8 = .ok (.invokevirtual 111, 3) := dk_182 0 111 (dk_at dksX4_told_0 8 rfl rfl)
theorem dX4_told_11 : decode cX4_told 11 = .ok (.ireturn, 1) := dk_172 (dk_at dksX4_told_0 11 rfl rfl)
abbrev cX4_number : ByteArray := prog_8_method_8_code
def yX4_number : MethodName := ⟨RX4, "number", "(II)I"⟩
def dkwX4_number_1 : List UInt8 := [133, 184, 0, 48, 154, 0, 9, 42, 5, 182, 0, 103, 191, 42, 180, 0, 62, 62, 42, 182, 0, 38, 29, 172]
abbrev dktX4_number_1 : List UInt8 := dkwX4_number_1 ++ []
def dkwX4_number_0 : List UInt8 := [42, 180, 0, 35, 178, 0, 72, 165, 0, 9, 42, 4, 182, 0, 103, 191, 42, 180, 0, 62, 133, 27, 133, 28]
abbrev dktX4_number_0 : List UInt8 := dkwX4_number_0 ++ dktX4_number_1
theorem dksX4_number_0 : cX4_number.data.toList.drop 0 = dktX4_number_0 := by decide +kernel
theorem dksX4_number_1 : cX4_number.data.toList.drop 24 = dktX4_number_1 := dk_seg dksX4_number_0 24 rfl rfl
theorem dX4_number_0 : decode cX4_number 0 = .ok (.aload_n 0, 1) := dk_42 (dk_at dksX4_number_0 0 rfl rfl)
theorem dX4_number_1 : decode cX4_number 1 = .ok (.getfield 35, 3) := dk_180 0 35 (dk_at dksX4_number_0 1 rfl rfl)
theorem dX4_number_4 : decode cX4_number 4 = .ok (.getstatic 72, 3) := dk_178 0 72 (dk_at dksX4_number_0 4 rfl rfl)
theorem dX4_number_7 : decode cX4_number 7 = .ok (.if_acmp .eq 9, 3) := dk_165 0 9 (dk_at dksX4_number_0 7 rfl rfl)
theorem dX4_number_10 : decode cX4_number 10 = .ok (.aload_n 0, 1) := dk_42 (dk_at dksX4_number_0 10 rfl rfl)
theorem dX4_number_11 : decode cX4_number 11 = .ok (.iconst 1, 1) := dk_4 (dk_at dksX4_number_0 11 rfl rfl)
theorem dX4_number_12 : decode cX4_number 12 = .ok (.invokevirtual 103, 3) := dk_182 0 103 (dk_at dksX4_number_0 12 rfl rfl)
theorem dX4_number_15 : decode cX4_number 15 = .ok (.athrow, 1) := dk_191 (dk_at dksX4_number_0 15 rfl rfl)
theorem dX4_number_16 : decode cX4_number 16 = .ok (.aload_n 0, 1) := dk_42 (dk_at dksX4_number_0 16 rfl rfl)
theorem dX4_number_17 : decode cX4_number 17 = .ok (.getfield 62, 3) := dk_180 0 62 (dk_at dksX4_number_0 17 rfl rfl)
theorem dX4_number_20 : decode cX4_number 20 = .ok (.i2l, 1) := dk_133 (dk_at dksX4_number_0 20 rfl rfl)
theorem dX4_number_21 : decode cX4_number 21 = .ok (.iload_n 1, 1) := dk_27 (dk_at dksX4_number_0 21 rfl rfl)
theorem dX4_number_22 : decode cX4_number 22 = .ok (.i2l, 1) := dk_133 (dk_at dksX4_number_0 22 rfl rfl)
theorem dX4_number_23 : decode cX4_number 23 = .ok (.iload_n 2, 1) := dk_28 (dk_at dksX4_number_0 23 rfl rfl)
theorem dX4_number_24 : decode cX4_number 24 = .ok (.i2l, 1) := dk_133 (dk_at dksX4_number_1 0 rfl rfl)
theorem dX4_number_25 : decode cX4_number 25 = .ok (.invokestatic 48, 3) := dk_184 0 48 (dk_at dksX4_number_1 1 rfl rfl)
theorem dX4_number_28 : decode cX4_number 28 = .ok (.ifCond .ne 9, 3) := dk_154 0 9 (dk_at dksX4_number_1 4 rfl rfl)
theorem dX4_number_31 : decode cX4_number 31 = .ok (.aload_n 0, 1) := dk_42 (dk_at dksX4_number_1 7 rfl rfl)
theorem dX4_number_32 : decode cX4_number 32 = .ok (.iconst 2, 1) := dk_5 (dk_at dksX4_number_1 8 rfl rfl)
theorem dX4_number_33 : decode cX4_number 33 = .ok (.invokevirtual 103, 3) := dk_182 0 103 (dk_at dksX4_number_1 9 rfl rfl)
theorem dX4_number_36 : decode cX4_number 36 = .ok (.athrow, 1) := dk_191 (dk_at dksX4_number_1 12 rfl rfl)
theorem dX4_number_37 : decode cX4_number 37 = .ok (.aload_n 0, 1) := dk_42 (dk_at dksX4_number_1 13 rfl rfl)
theorem dX4_number_38 : decode cX4_number 38 = .ok (.getfield 62, 3) := dk_180 0 62 (dk_at dksX4_number_1 14 rfl rfl)
theorem dX4_number_41 : decode cX4_number 41 = .ok (.istore_n 3, 1) := dk_62 (dk_at dksX4_number_1 17 rfl rfl)
theorem dX4_number_42 : decode cX4_number 42 = .ok (.aload_n 0, 1) := dk_42 (dk_at dksX4_number_1 18 rfl rfl)
theorem dX4_number_43 : decode cX4_number 43 = .ok (.invokevirtual 38, 3) := dk_182 0 38 (dk_at dksX4_number_1 19 rfl rfl)
theorem dX4_number_46 : decode cX4_number 46 = .ok (.iload_n 3, 1) := dk_29 (dk_at dksX4_number_1 22 rfl rfl)
theorem dX4_number_47 : decode cX4_number 47 = .ok (.ireturn, 1) := dk_172 (dk_at dksX4_number_1 23 rfl rfl)
abbrev cX4_line : ByteArray := prog_8_method_13_code
def yX4_line : MethodName := ⟨RX4, "line", "()V"⟩
def dkwX4_line_2 : List UInt8 := [182, 0, 100, 153, 0, 10, 42, 182, 0, 159, 167, 0, 9, 42, 4, 182, 0, 103, 191, 177]
abbrev dktX4_line_2 : List UInt8 := dkwX4_line_2 ++ []
def dkwX4_line_1 : List UInt8 := [182, 0, 103, 191, 42, 18, 152, 182, 0, 100, 153, 0, 10, 42, 182, 0, 154, 167, 0, 25, 42, 18, 157]
abbrev dktX4_line_1 : List UInt8 := dkwX4_line_1 ++ dktX4_line_2
def dkwX4_line_0 : List UInt8 := [42, 18, 152, 182, 0, 96, 153, 0, 21, 42, 180, 0, 25, 180, 0, 114, 16, 8, 160, 0, 9, 42, 6]
abbrev dktX4_line_0 : List UInt8 := dkwX4_line_0 ++ dktX4_line_1
theorem dksX4_line_0 : cX4_line.data.toList.drop 0 = dktX4_line_0 := by decide +kernel
theorem dksX4_line_1 : cX4_line.data.toList.drop 23 = dktX4_line_1 := dk_seg dksX4_line_0 23 rfl rfl
theorem dksX4_line_2 : cX4_line.data.toList.drop 46 = dktX4_line_2 := dk_seg dksX4_line_1 23 rfl rfl
theorem dX4_line_0 : decode cX4_line 0 = .ok (.aload_n 0, 1) := dk_42 (dk_at dksX4_line_0 0 rfl rfl)
theorem dX4_line_1 : decode cX4_line 1 = .ok (.ldc 152, 2) := dk_18 152 (dk_at dksX4_line_0 1 rfl rfl)
theorem dX4_line_3 : decode cX4_line 3 = .ok (.invokevirtual 96, 3) := dk_182 0 96 (dk_at dksX4_line_0 3 rfl rfl)
theorem dX4_line_6 : decode cX4_line 6 = .ok (.ifCond .eq 21, 3) := dk_153 0 21 (dk_at dksX4_line_0 6 rfl rfl)
theorem dX4_line_9 : decode cX4_line 9 = .ok (.aload_n 0, 1) := dk_42 (dk_at dksX4_line_0 9 rfl rfl)
theorem dX4_line_10 : decode cX4_line 10 = .ok (.getfield 25, 3) := dk_180 0 25 (dk_at dksX4_line_0 10 rfl rfl)
theorem dX4_line_13 : decode cX4_line 13 = .ok (.getfield 114, 3) := dk_180 0 114 (dk_at dksX4_line_0 13 rfl rfl)
theorem dX4_line_16 : decode cX4_line 16 = .ok (.bipush 8, 2) := dk_16 8 (dk_at dksX4_line_0 16 rfl rfl)
theorem dX4_line_18 : decode cX4_line 18 = .ok (.if_icmp .ne 9, 3) := dk_160 0 9 (dk_at dksX4_line_0 18 rfl rfl)
theorem dX4_line_21 : decode cX4_line 21 = .ok (.aload_n 0, 1) := dk_42 (dk_at dksX4_line_0 21 rfl rfl)
theorem dX4_line_22 : decode cX4_line 22 = .ok (.iconst 3, 1) := dk_6 (dk_at dksX4_line_0 22 rfl rfl)
theorem dX4_line_23 : decode cX4_line 23 = .ok (.invokevirtual 103, 3) := dk_182 0 103 (dk_at dksX4_line_1 0 rfl rfl)
theorem dX4_line_26 : decode cX4_line 26 = .ok (.athrow, 1) := dk_191 (dk_at dksX4_line_1 3 rfl rfl)
theorem dX4_line_27 : decode cX4_line 27 = .ok (.aload_n 0, 1) := dk_42 (dk_at dksX4_line_1 4 rfl rfl)
theorem dX4_line_28 : decode cX4_line 28 = .ok (.ldc 152, 2) := dk_18 152 (dk_at dksX4_line_1 5 rfl rfl)
theorem dX4_line_30 : decode cX4_line 30 = .ok (.invokevirtual 100, 3) := dk_182 0 100 (dk_at dksX4_line_1 7 rfl rfl)
theorem dX4_line_33 : decode cX4_line 33 = .ok (.ifCond .eq 10, 3) := dk_153 0 10 (dk_at dksX4_line_1 10 rfl rfl)
theorem dX4_line_36 : decode cX4_line 36 = .ok (.aload_n 0, 1) := dk_42 (dk_at dksX4_line_1 13 rfl rfl)
theorem dX4_line_37 : decode cX4_line 37 = .ok (.invokevirtual 154, 3) := dk_182 0 154 (dk_at dksX4_line_1 14 rfl rfl)
theorem dX4_line_40 : decode cX4_line 40 = .ok (.goto 25, 3) := dk_167 0 25 (dk_at dksX4_line_1 17 rfl rfl)
theorem dX4_line_43 : decode cX4_line 43 = .ok (.aload_n 0, 1) := dk_42 (dk_at dksX4_line_1 20 rfl rfl)
theorem dX4_line_44 : decode cX4_line 44 = .ok (.ldc 157, 2) := dk_18 157 (dk_at dksX4_line_1 21 rfl rfl)
theorem dX4_line_46 : decode cX4_line 46 = .ok (.invokevirtual 100, 3) := dk_182 0 100 (dk_at dksX4_line_2 0 rfl rfl)
theorem dX4_line_49 : decode cX4_line 49 = .ok (.ifCond .eq 10, 3) := dk_153 0 10 (dk_at dksX4_line_2 3 rfl rfl)
theorem dX4_line_52 : decode cX4_line 52 = .ok (.aload_n 0, 1) := dk_42 (dk_at dksX4_line_2 6 rfl rfl)
theorem dX4_line_53 : decode cX4_line 53 = .ok (.invokevirtual 159, 3) := dk_182 0 159 (dk_at dksX4_line_2 7 rfl rfl)
theorem dX4_line_56 : decode cX4_line 56 = .ok (.goto 9, 3) := dk_167 0 9 (dk_at dksX4_line_2 10 rfl rfl)
theorem dX4_line_59 : decode cX4_line 59 = .ok (.aload_n 0, 1) := dk_42 (dk_at dksX4_line_2 13 rfl rfl)
theorem dX4_line_60 : decode cX4_line 60 = .ok (.iconst 1, 1) := dk_4 (dk_at dksX4_line_2 14 rfl rfl)
theorem dX4_line_61 : decode cX4_line 61 = .ok (.invokevirtual 103, 3) := dk_182 0 103 (dk_at dksX4_line_2 15 rfl rfl)
theorem dX4_line_64 : decode cX4_line 64 = .ok (.athrow, 1) := dk_191 (dk_at dksX4_line_2 18 rfl rfl)
theorem dX4_line_65 : decode cX4_line 65 = .ok (.return_, 1) := dk_177 (dk_at dksX4_line_2 19 rfl rfl)
abbrev cX4_newPerson : ByteArray := prog_8_method_11_code
def yX4_newPerson : MethodName := ⟨RX4, "newPerson", "()V"⟩
def dkwX4_newPerson_3 : List UInt8 := [180, 0, 25, 89, 180, 0, 114, 4, 96, 181, 0, 114, 177]
abbrev dktX4_newPerson_3 : List UInt8 := dkwX4_newPerson_3 ++ []
def dkwX4_newPerson_2 : List UInt8 := [180, 0, 134, 27, 42, 18, 137, 182, 0, 130, 79, 42, 180, 0, 25, 180, 0, 138, 27, 2, 79, 42]
abbrev dktX4_newPerson_2 : List UInt8 := dkwX4_newPerson_2 ++ dktX4_newPerson_3
def dkwX4_newPerson_1 : List UInt8 := [182, 0, 122, 79, 42, 180, 0, 25, 180, 0, 126, 27, 42, 18, 129, 182, 0, 130, 79, 42, 180, 0, 25]
abbrev dktX4_newPerson_1 : List UInt8 := dkwX4_newPerson_1 ++ dktX4_newPerson_2
def dkwX4_newPerson_0 : List UInt8 := [42, 180, 0, 25, 180, 0, 114, 60, 42, 180, 0, 25, 180, 0, 117, 27, 42, 18, 121, 4, 17, 3, 231]
abbrev dktX4_newPerson_0 : List UInt8 := dkwX4_newPerson_0 ++ dktX4_newPerson_1
theorem dksX4_newPerson_0 : cX4_newPerson.data.toList.drop 0 = dktX4_newPerson_0 := by decide +kernel
theorem dksX4_newPerson_1 : cX4_newPerson.data.toList.drop 23 = dktX4_newPerson_1 := dk_seg dksX4_newPerson_0 23 rfl rfl
theorem dksX4_newPerson_2 : cX4_newPerson.data.toList.drop 46 = dktX4_newPerson_2 := dk_seg dksX4_newPerson_1 23 rfl rfl
theorem dksX4_newPerson_3 : cX4_newPerson.data.toList.drop 68 = dktX4_newPerson_3 := dk_seg dksX4_newPerson_2 22 rfl rfl
theorem dX4_newPerson_0 : decode cX4_newPerson 0 = .ok (.aload_n 0, 1) := dk_42 (dk_at dksX4_newPerson_0 0 rfl rfl)
theorem dX4_newPerson_1 : decode cX4_newPerson 1 = .ok (.getfield 25, 3) := dk_180 0 25 (dk_at dksX4_newPerson_0 1 rfl rfl)
theorem dX4_newPerson_4 : decode cX4_newPerson 4 = .ok (.getfield 114, 3) := dk_180 0 114 (dk_at dksX4_newPerson_0 4 rfl rfl)
theorem dX4_newPerson_7 : decode cX4_newPerson 7 = .ok (.istore_n 1, 1) := dk_60 (dk_at dksX4_newPerson_0 7 rfl rfl)
theorem dX4_newPerson_8 : decode cX4_newPerson 8 = .ok (.aload_n 0, 1) := dk_42 (dk_at dksX4_newPerson_0 8 rfl rfl)
theorem dX4_newPerson_9 : decode cX4_newPerson 9 = .ok (.getfield 25, 3) := dk_180 0 25 (dk_at dksX4_newPerson_0 9 rfl rfl)
theorem dX4_newPerson_12 : decode cX4_newPerson 12 = .ok (.getfield 117, 3) := dk_180 0 117 (dk_at dksX4_newPerson_0 12 rfl rfl)
theorem dX4_newPerson_15 : decode cX4_newPerson 15 = .ok (.iload_n 1, 1) := dk_27 (dk_at dksX4_newPerson_0 15 rfl rfl)
theorem dX4_newPerson_16 : decode cX4_newPerson 16 = .ok (.aload_n 0, 1) := dk_42 (dk_at dksX4_newPerson_0 16 rfl rfl)
theorem dX4_newPerson_17 : decode cX4_newPerson 17 = .ok (.ldc 121, 2) := dk_18 121 (dk_at dksX4_newPerson_0 17 rfl rfl)
theorem dX4_newPerson_19 : decode cX4_newPerson 19 = .ok (.iconst 1, 1) := dk_4 (dk_at dksX4_newPerson_0 19 rfl rfl)
theorem dX4_newPerson_20 : decode cX4_newPerson 20 = .ok (.sipush 999, 3) := dk_17 3 231 (dk_at dksX4_newPerson_0 20 rfl rfl)
theorem dX4_newPerson_23 : decode cX4_newPerson 23 = .ok (.invokevirtual 122, 3) := dk_182 0 122 (dk_at dksX4_newPerson_1 0 rfl rfl)
theorem dX4_newPerson_26 : decode cX4_newPerson 26 = .ok (.iastore, 1) := dk_79 (dk_at dksX4_newPerson_1 3 rfl rfl)
theorem dX4_newPerson_27 : decode cX4_newPerson 27 = .ok (.aload_n 0, 1) := dk_42 (dk_at dksX4_newPerson_1 4 rfl rfl)
theorem dX4_newPerson_28 : decode cX4_newPerson 28 = .ok (.getfield 25, 3) := dk_180 0 25 (dk_at dksX4_newPerson_1 5 rfl rfl)
theorem dX4_newPerson_31 : decode cX4_newPerson 31 = .ok (.getfield 126, 3) := dk_180 0 126 (dk_at dksX4_newPerson_1 8 rfl rfl)
theorem dX4_newPerson_34 : decode cX4_newPerson 34 = .ok (.iload_n 1, 1) := dk_27 (dk_at dksX4_newPerson_1 11 rfl rfl)
theorem dX4_newPerson_35 : decode cX4_newPerson 35 = .ok (.aload_n 0, 1) := dk_42 (dk_at dksX4_newPerson_1 12 rfl rfl)
theorem dX4_newPerson_36 : decode cX4_newPerson 36 = .ok (.ldc 129, 2) := dk_18 129 (dk_at dksX4_newPerson_1 13 rfl rfl)
theorem dX4_newPerson_38 : decode cX4_newPerson 38 = .ok (.invokevirtual 130, 3) := dk_182 0 130 (dk_at dksX4_newPerson_1 15 rfl rfl)
theorem dX4_newPerson_41 : decode cX4_newPerson 41 = .ok (.iastore, 1) := dk_79 (dk_at dksX4_newPerson_1 18 rfl rfl)
theorem dX4_newPerson_42 : decode cX4_newPerson 42 = .ok (.aload_n 0, 1) := dk_42 (dk_at dksX4_newPerson_1 19 rfl rfl)
theorem dX4_newPerson_43 : decode cX4_newPerson 43 = .ok (.getfield 25, 3) := dk_180 0 25 (dk_at dksX4_newPerson_1 20 rfl rfl)
theorem dX4_newPerson_46 : decode cX4_newPerson 46 = .ok (.getfield 134, 3) := dk_180 0 134 (dk_at dksX4_newPerson_2 0 rfl rfl)
theorem dX4_newPerson_49 : decode cX4_newPerson 49 = .ok (.iload_n 1, 1) := dk_27 (dk_at dksX4_newPerson_2 3 rfl rfl)
theorem dX4_newPerson_50 : decode cX4_newPerson 50 = .ok (.aload_n 0, 1) := dk_42 (dk_at dksX4_newPerson_2 4 rfl rfl)
theorem dX4_newPerson_51 : decode cX4_newPerson 51 = .ok (.ldc 137, 2) := dk_18 137 (dk_at dksX4_newPerson_2 5 rfl rfl)
theorem dX4_newPerson_53 : decode cX4_newPerson 53 = .ok (.invokevirtual 130, 3) := dk_182 0 130 (dk_at dksX4_newPerson_2 7 rfl rfl)
theorem dX4_newPerson_56 : decode cX4_newPerson 56 = .ok (.iastore, 1) := dk_79 (dk_at dksX4_newPerson_2 10 rfl rfl)
theorem dX4_newPerson_57 : decode cX4_newPerson 57 = .ok (.aload_n 0, 1) := dk_42 (dk_at dksX4_newPerson_2 11 rfl rfl)
theorem dX4_newPerson_58 : decode cX4_newPerson 58 = .ok (.getfield 25, 3) := dk_180 0 25 (dk_at dksX4_newPerson_2 12 rfl rfl)
theorem dX4_newPerson_61 : decode cX4_newPerson 61 = .ok (.getfield 138, 3) := dk_180 0 138 (dk_at dksX4_newPerson_2 15 rfl rfl)
theorem dX4_newPerson_64 : decode cX4_newPerson 64 = .ok (.iload_n 1, 1) := dk_27 (dk_at dksX4_newPerson_2 18 rfl rfl)
theorem dX4_newPerson_65 : decode cX4_newPerson 65 = .ok (.iconst (-1), 1) := dk_2 (dk_at dksX4_newPerson_2 19 rfl rfl)
theorem dX4_newPerson_66 : decode cX4_newPerson 66 = .ok (.iastore, 1) := dk_79 (dk_at dksX4_newPerson_2 20 rfl rfl)
theorem dX4_newPerson_67 : decode cX4_newPerson 67 = .ok (.aload_n 0, 1) := dk_42 (dk_at dksX4_newPerson_2 21 rfl rfl)
theorem dX4_newPerson_68 : decode cX4_newPerson 68 = .ok (.getfield 25, 3) := dk_180 0 25 (dk_at dksX4_newPerson_3 0 rfl rfl)
theorem dX4_newPerson_71 : decode cX4_newPerson 71 = .ok (.dup, 1) := dk_89 (dk_at dksX4_newPerson_3 3 rfl rfl)
theorem dX4_newPerson_72 : decode cX4_newPerson 72 = .ok (.getfield 114, 3) := dk_180 0 114 (dk_at dksX4_newPerson_3 4 rfl rfl)
theorem dX4_newPerson_75 : decode cX4_newPerson 75 = .ok (.iconst 1, 1) := dk_4 (dk_at dksX4_newPerson_3 7 rfl rfl)
theorem dX4_newPerson_76 : decode cX4_newPerson 76 = .ok (.iadd, 1) := dk_96 (dk_at dksX4_newPerson_3 8 rfl rfl)
theorem dX4_newPerson_77 : decode cX4_newPerson 77 = .ok (.putfield 114, 3) := dk_181 0 114 (dk_at dksX4_newPerson_3 9 rfl rfl)
theorem dX4_newPerson_80 : decode cX4_newPerson 80 = .ok (.return_, 1) := dk_177 (dk_at dksX4_newPerson_3 12 rfl rfl)
abbrev cX4_deeds : ByteArray := prog_8_method_10_code
def yX4_deeds : MethodName := ⟨RX4, "deeds", "(Ljava/lang/String;)I"⟩
def dkwX4_deeds_1 : List UInt8 := [180, 0, 35, 178, 0, 72, 165, 255, 238, 28, 172]
abbrev dktX4_deeds_1 : List UInt8 := dkwX4_deeds_1 ++ []
def dkwX4_deeds_0 : List UInt8 := [42, 43, 182, 0, 100, 154, 0, 5, 3, 172, 3, 61, 28, 4, 42, 3, 8, 182, 0, 111, 120, 128, 61, 42]
abbrev dktX4_deeds_0 : List UInt8 := dkwX4_deeds_0 ++ dktX4_deeds_1
theorem dksX4_deeds_0 : cX4_deeds.data.toList.drop 0 = dktX4_deeds_0 := by decide +kernel
theorem dksX4_deeds_1 : cX4_deeds.data.toList.drop 24 = dktX4_deeds_1 := dk_seg dksX4_deeds_0 24 rfl rfl
theorem dX4_deeds_0 : decode cX4_deeds 0 = .ok (.aload_n 0, 1) := dk_42 (dk_at dksX4_deeds_0 0 rfl rfl)
theorem dX4_deeds_1 : decode cX4_deeds 1 = .ok (.aload_n 1, 1) := dk_43 (dk_at dksX4_deeds_0 1 rfl rfl)
theorem dX4_deeds_2 : decode cX4_deeds 2 = .ok (.invokevirtual 100, 3) := dk_182 0 100 (dk_at dksX4_deeds_0 2 rfl rfl)
theorem dX4_deeds_5 : decode cX4_deeds 5 = .ok (.ifCond .ne 5, 3) := dk_154 0 5 (dk_at dksX4_deeds_0 5 rfl rfl)
theorem dX4_deeds_8 : decode cX4_deeds 8 = .ok (.iconst 0, 1) := dk_3 (dk_at dksX4_deeds_0 8 rfl rfl)
theorem dX4_deeds_9 : decode cX4_deeds 9 = .ok (.ireturn, 1) := dk_172 (dk_at dksX4_deeds_0 9 rfl rfl)
theorem dX4_deeds_10 : decode cX4_deeds 10 = .ok (.iconst 0, 1) := dk_3 (dk_at dksX4_deeds_0 10 rfl rfl)
theorem dX4_deeds_11 : decode cX4_deeds 11 = .ok (.istore_n 2, 1) := dk_61 (dk_at dksX4_deeds_0 11 rfl rfl)
theorem dX4_deeds_12 : decode cX4_deeds 12 = .ok (.iload_n 2, 1) := dk_28 (dk_at dksX4_deeds_0 12 rfl rfl)
theorem dX4_deeds_13 : decode cX4_deeds 13 = .ok (.iconst 1, 1) := dk_4 (dk_at dksX4_deeds_0 13 rfl rfl)
theorem dX4_deeds_14 : decode cX4_deeds 14 = .ok (.aload_n 0, 1) := dk_42 (dk_at dksX4_deeds_0 14 rfl rfl)
theorem dX4_deeds_15 : decode cX4_deeds 15 = .ok (.iconst 0, 1) := dk_3 (dk_at dksX4_deeds_0 15 rfl rfl)
theorem dX4_deeds_16 : decode cX4_deeds 16 = .ok (.iconst 5, 1) := dk_8 (dk_at dksX4_deeds_0 16 rfl rfl)
theorem dX4_deeds_17 : decode cX4_deeds 17 = .ok (.invokevirtual 111, 3) := dk_182 0 111 (dk_at dksX4_deeds_0 17 rfl rfl)
theorem dX4_deeds_20 : decode cX4_deeds 20 = .ok (.ishl, 1) := dk_120 (dk_at dksX4_deeds_0 20 rfl rfl)
theorem dX4_deeds_21 : decode cX4_deeds 21 = .ok (.ior, 1) := dk_128 (dk_at dksX4_deeds_0 21 rfl rfl)
theorem dX4_deeds_22 : decode cX4_deeds 22 = .ok (.istore_n 2, 1) := dk_61 (dk_at dksX4_deeds_0 22 rfl rfl)
theorem dX4_deeds_23 : decode cX4_deeds 23 = .ok (.aload_n 0, 1) := dk_42 (dk_at dksX4_deeds_0 23 rfl rfl)
theorem dX4_deeds_24 : decode cX4_deeds 24 = .ok (.getfield 35, 3) := dk_180 0 35 (dk_at dksX4_deeds_1 0 rfl rfl)
theorem dX4_deeds_27 : decode cX4_deeds 27 = .ok (.getstatic 72, 3) := dk_178 0 72 (dk_at dksX4_deeds_1 3 rfl rfl)
theorem dX4_deeds_30 : decode cX4_deeds 30 = .ok (.if_acmp .eq (-18), 3) := dk_165 255 238 (dk_at dksX4_deeds_1 6 rfl rfl)
theorem dX4_deeds_33 : decode cX4_deeds 33 = .ok (.iload_n 2, 1) := dk_28 (dk_at dksX4_deeds_1 9 rfl rfl)
theorem dX4_deeds_34 : decode cX4_deeds 34 = .ok (.ireturn, 1) := dk_172 (dk_at dksX4_deeds_1 10 rfl rfl)
abbrev cX4_newCard : ByteArray := prog_8_method_12_code
def yX4_newCard : MethodName := ⟨RX4, "newCard", "()V"⟩
def dkwX4_newCard_5 : List UInt8 := [180, 0, 25, 89, 180, 0, 141, 4, 27, 120, 128, 181, 0, 141, 177]
abbrev dktX4_newCard_5 : List UInt8 := dkwX4_newCard_5 ++ []
def dkwX4_newCard_4 : List UInt8 := [180, 0, 148, 42, 18, 151, 182, 0, 100, 153, 0, 9, 4, 27, 120, 167, 0, 4, 3, 128, 181, 0, 148, 42]
abbrev dktX4_newCard_4 : List UInt8 := dkwX4_newCard_4 ++ dktX4_newCard_5
def dkwX4_newCard_3 : List UInt8 := [180, 0, 138, 27, 42, 3, 42, 180, 0, 25, 180, 0, 114, 4, 100, 182, 0, 111, 79, 42, 180, 0, 25, 89]
abbrev dktX4_newCard_3 : List UInt8 := dkwX4_newCard_3 ++ dktX4_newCard_4
def dkwX4_newCard_2 : List UInt8 := [3, 42, 180, 0, 25, 180, 0, 114, 4, 100, 182, 0, 111, 60, 42, 18, 146, 182, 0, 107, 42, 180, 0, 25]
abbrev dktX4_newCard_2 : List UInt8 := dkwX4_newCard_2 ++ dktX4_newCard_3
def dkwX4_newCard_1 : List UInt8 := [42, 180, 0, 25, 180, 0, 141, 42, 180, 0, 62, 184, 0, 143, 153, 0, 9, 42, 5, 182, 0, 103, 191, 42]
abbrev dktX4_newCard_1 : List UInt8 := dkwX4_newCard_1 ++ dktX4_newCard_2
def dkwX4_newCard_0 : List UInt8 := [42, 180, 0, 35, 178, 0, 72, 166, 0, 40, 42, 180, 0, 62, 42, 180, 0, 25, 180, 0, 114, 162, 0, 26]
abbrev dktX4_newCard_0 : List UInt8 := dkwX4_newCard_0 ++ dktX4_newCard_1
theorem dksX4_newCard_0 : cX4_newCard.data.toList.drop 0 = dktX4_newCard_0 := by decide +kernel
theorem dksX4_newCard_1 : cX4_newCard.data.toList.drop 24 = dktX4_newCard_1 := dk_seg dksX4_newCard_0 24 rfl rfl
theorem dksX4_newCard_2 : cX4_newCard.data.toList.drop 48 = dktX4_newCard_2 := dk_seg dksX4_newCard_1 24 rfl rfl
theorem dksX4_newCard_3 : cX4_newCard.data.toList.drop 72 = dktX4_newCard_3 := dk_seg dksX4_newCard_2 24 rfl rfl
theorem dksX4_newCard_4 : cX4_newCard.data.toList.drop 96 = dktX4_newCard_4 := dk_seg dksX4_newCard_3 24 rfl rfl
theorem dksX4_newCard_5 : cX4_newCard.data.toList.drop 120 = dktX4_newCard_5 := dk_seg dksX4_newCard_4 24 rfl rfl
theorem dX4_newCard_0 : decode cX4_newCard 0 = .ok (.aload_n 0, 1) := dk_42 (dk_at dksX4_newCard_0 0 rfl rfl)
theorem dX4_newCard_1 : decode cX4_newCard 1 = .ok (.getfield 35, 3) := dk_180 0 35 (dk_at dksX4_newCard_0 1 rfl rfl)
theorem dX4_newCard_4 : decode cX4_newCard 4 = .ok (.getstatic 72, 3) := dk_178 0 72 (dk_at dksX4_newCard_0 4 rfl rfl)
theorem dX4_newCard_7 : decode cX4_newCard 7 = .ok (.if_acmp .ne 40, 3) := dk_166 0 40 (dk_at dksX4_newCard_0 7 rfl rfl)
theorem dX4_newCard_10 : decode cX4_newCard 10 = .ok (.aload_n 0, 1) := dk_42 (dk_at dksX4_newCard_0 10 rfl rfl)
theorem dX4_newCard_11 : decode cX4_newCard 11 = .ok (.getfield 62, 3) := dk_180 0 62 (dk_at dksX4_newCard_0 11 rfl rfl)
theorem dX4_newCard_14 : decode cX4_newCard 14 = .ok (.aload_n 0, 1) := dk_42 (dk_at dksX4_newCard_0 14 rfl rfl)
theorem dX4_newCard_15 : decode cX4_newCard 15 = .ok (.getfield 25, 3) := dk_180 0 25 (dk_at dksX4_newCard_0 15 rfl rfl)
theorem dX4_newCard_18 : decode cX4_newCard 18 = .ok (.getfield 114, 3) := dk_180 0 114 (dk_at dksX4_newCard_0 18 rfl rfl)
theorem dX4_newCard_21 : decode cX4_newCard 21 = .ok (.if_icmp .ge 26, 3) := dk_162 0 26 (dk_at dksX4_newCard_0 21 rfl rfl)
theorem dX4_newCard_24 : decode cX4_newCard 24 = .ok (.aload_n 0, 1) := dk_42 (dk_at dksX4_newCard_1 0 rfl rfl)
theorem dX4_newCard_25 : decode cX4_newCard 25 = .ok (.getfield 25, 3) := dk_180 0 25 (dk_at dksX4_newCard_1 1 rfl rfl)
theorem dX4_newCard_28 : decode cX4_newCard 28 = .ok (.getfield 141, 3) := dk_180 0 141 (dk_at dksX4_newCard_1 4 rfl rfl)
theorem dX4_newCard_31 : decode cX4_newCard 31 = .ok (.aload_n 0, 1) := dk_42 (dk_at dksX4_newCard_1 7 rfl rfl)
theorem dX4_newCard_32 : decode cX4_newCard 32 = .ok (.getfield 62, 3) := dk_180 0 62 (dk_at dksX4_newCard_1 8 rfl rfl)
theorem dX4_newCard_35 : decode cX4_newCard 35 = .ok (.invokestatic 143, 3) := dk_184 0 143 (dk_at dksX4_newCard_1 11 rfl rfl)
theorem dX4_newCard_38 : decode cX4_newCard 38 = .ok (.ifCond .eq 9, 3) := dk_153 0 9 (dk_at dksX4_newCard_1 14 rfl rfl)
theorem dX4_newCard_41 : decode cX4_newCard 41 = .ok (.aload_n 0, 1) := dk_42 (dk_at dksX4_newCard_1 17 rfl rfl)
theorem dX4_newCard_42 : decode cX4_newCard 42 = .ok (.iconst 2, 1) := dk_5 (dk_at dksX4_newCard_1 18 rfl rfl)
theorem dX4_newCard_43 : decode cX4_newCard 43 = .ok (.invokevirtual 103, 3) := dk_182 0 103 (dk_at dksX4_newCard_1 19 rfl rfl)
theorem dX4_newCard_46 : decode cX4_newCard 46 = .ok (.athrow, 1) := dk_191 (dk_at dksX4_newCard_1 22 rfl rfl)
theorem dX4_newCard_47 : decode cX4_newCard 47 = .ok (.aload_n 0, 1) := dk_42 (dk_at dksX4_newCard_1 23 rfl rfl)
theorem dX4_newCard_48 : decode cX4_newCard 48 = .ok (.iconst 0, 1) := dk_3 (dk_at dksX4_newCard_2 0 rfl rfl)
theorem dX4_newCard_49 : decode cX4_newCard 49 = .ok (.aload_n 0, 1) := dk_42 (dk_at dksX4_newCard_2 1 rfl rfl)
theorem dX4_newCard_50 : decode cX4_newCard 50 = .ok (.getfield 25, 3) := dk_180 0 25 (dk_at dksX4_newCard_2 2 rfl rfl)
theorem dX4_newCard_53 : decode cX4_newCard 53 = .ok (.getfield 114, 3) := dk_180 0 114 (dk_at dksX4_newCard_2 5 rfl rfl)
theorem dX4_newCard_56 : decode cX4_newCard 56 = .ok (.iconst 1, 1) := dk_4 (dk_at dksX4_newCard_2 8 rfl rfl)
theorem dX4_newCard_57 : decode cX4_newCard 57 = .ok (.isub, 1) := dk_100 (dk_at dksX4_newCard_2 9 rfl rfl)
theorem dX4_newCard_58 : decode cX4_newCard 58 = .ok (.invokevirtual 111, 3) := dk_182 0 111 (dk_at dksX4_newCard_2 10 rfl rfl)
theorem dX4_newCard_61 : decode cX4_newCard 61 = .ok (.istore_n 1, 1) := dk_60 (dk_at dksX4_newCard_2 13 rfl rfl)
theorem dX4_newCard_62 : decode cX4_newCard 62 = .ok (.aload_n 0, 1) := dk_42 (dk_at dksX4_newCard_2 14 rfl rfl)
theorem dX4_newCard_63 : decode cX4_newCard 63 = .ok (.ldc 146, 2) := dk_18 146 (dk_at dksX4_newCard_2 15 rfl rfl)
theorem dX4_newCard_65 : decode cX4_newCard 65 = .ok (.invokevirtual 107, 3) := dk_182 0 107 (dk_at dksX4_newCard_2 17 rfl rfl)
theorem dX4_newCard_68 : decode cX4_newCard 68 = .ok (.aload_n 0, 1) := dk_42 (dk_at dksX4_newCard_2 20 rfl rfl)
theorem dX4_newCard_69 : decode cX4_newCard 69 = .ok (.getfield 25, 3) := dk_180 0 25 (dk_at dksX4_newCard_2 21 rfl rfl)
theorem dX4_newCard_72 : decode cX4_newCard 72 = .ok (.getfield 138, 3) := dk_180 0 138 (dk_at dksX4_newCard_3 0 rfl rfl)
theorem dX4_newCard_75 : decode cX4_newCard 75 = .ok (.iload_n 1, 1) := dk_27 (dk_at dksX4_newCard_3 3 rfl rfl)
theorem dX4_newCard_76 : decode cX4_newCard 76 = .ok (.aload_n 0, 1) := dk_42 (dk_at dksX4_newCard_3 4 rfl rfl)
theorem dX4_newCard_77 : decode cX4_newCard 77 = .ok (.iconst 0, 1) := dk_3 (dk_at dksX4_newCard_3 5 rfl rfl)
theorem dX4_newCard_78 : decode cX4_newCard 78 = .ok (.aload_n 0, 1) := dk_42 (dk_at dksX4_newCard_3 6 rfl rfl)
theorem dX4_newCard_79 : decode cX4_newCard 79 = .ok (.getfield 25, 3) := dk_180 0 25 (dk_at dksX4_newCard_3 7 rfl rfl)
theorem dX4_newCard_82 : decode cX4_newCard 82 = .ok (.getfield 114, 3) := dk_180 0 114 (dk_at dksX4_newCard_3 10 rfl rfl)
theorem dX4_newCard_85 : decode cX4_newCard 85 = .ok (.iconst 1, 1) := dk_4 (dk_at dksX4_newCard_3 13 rfl rfl)
theorem dX4_newCard_86 : decode cX4_newCard 86 = .ok (.isub, 1) := dk_100 (dk_at dksX4_newCard_3 14 rfl rfl)
theorem dX4_newCard_87 : decode cX4_newCard 87 = .ok (.invokevirtual 111, 3) := dk_182 0 111 (dk_at dksX4_newCard_3 15 rfl rfl)
theorem dX4_newCard_90 : decode cX4_newCard 90 = .ok (.iastore, 1) := dk_79 (dk_at dksX4_newCard_3 18 rfl rfl)
theorem dX4_newCard_91 : decode cX4_newCard 91 = .ok (.aload_n 0, 1) := dk_42 (dk_at dksX4_newCard_3 19 rfl rfl)
theorem dX4_newCard_92 : decode cX4_newCard 92 = .ok (.getfield 25, 3) := dk_180 0 25 (dk_at dksX4_newCard_3 20 rfl rfl)
theorem dX4_newCard_95 : decode cX4_newCard 95 = .ok (.dup, 1) := dk_89 (dk_at dksX4_newCard_3 23 rfl rfl)
theorem dX4_newCard_96 : decode cX4_newCard 96 = .ok (.getfield 148, 3) := dk_180 0 148 (dk_at dksX4_newCard_4 0 rfl rfl)
theorem dX4_newCard_99 : decode cX4_newCard 99 = .ok (.aload_n 0, 1) := dk_42 (dk_at dksX4_newCard_4 3 rfl rfl)
theorem dX4_newCard_100 : decode cX4_newCard 100 = .ok (.ldc 151, 2) := dk_18 151 (dk_at dksX4_newCard_4 4 rfl rfl)
theorem dX4_newCard_102 : decode cX4_newCard 102 = .ok (.invokevirtual 100, 3) := dk_182 0 100 (dk_at dksX4_newCard_4 6 rfl rfl)
theorem dX4_newCard_105 : decode cX4_newCard 105 = .ok (.ifCond .eq 9, 3) := dk_153 0 9 (dk_at dksX4_newCard_4 9 rfl rfl)
theorem dX4_newCard_108 : decode cX4_newCard 108 = .ok (.iconst 1, 1) := dk_4 (dk_at dksX4_newCard_4 12 rfl rfl)
theorem dX4_newCard_109 : decode cX4_newCard 109 = .ok (.iload_n 1, 1) := dk_27 (dk_at dksX4_newCard_4 13 rfl rfl)
theorem dX4_newCard_110 : decode cX4_newCard 110 = .ok (.ishl, 1) := dk_120 (dk_at dksX4_newCard_4 14 rfl rfl)
theorem dX4_newCard_111 : decode cX4_newCard 111 = .ok (.goto 4, 3) := dk_167 0 4 (dk_at dksX4_newCard_4 15 rfl rfl)
theorem dX4_newCard_114 : decode cX4_newCard 114 = .ok (.iconst 0, 1) := dk_3 (dk_at dksX4_newCard_4 18 rfl rfl)
theorem dX4_newCard_115 : decode cX4_newCard 115 = .ok (.ior, 1) := dk_128 (dk_at dksX4_newCard_4 19 rfl rfl)
theorem dX4_newCard_116 : decode cX4_newCard 116 = .ok (.putfield 148, 3) := dk_181 0 148 (dk_at dksX4_newCard_4 20 rfl rfl)
theorem dX4_newCard_119 : decode cX4_newCard 119 = .ok (.aload_n 0, 1) := dk_42 (dk_at dksX4_newCard_4 23 rfl rfl)
theorem dX4_newCard_120 : decode cX4_newCard 120 = .ok (.getfield 25, 3) := dk_180 0 25 (dk_at dksX4_newCard_5 0 rfl rfl)
theorem dX4_newCard_123 : decode cX4_newCard 123 = .ok (.dup, 1) := dk_89 (dk_at dksX4_newCard_5 3 rfl rfl)
theorem dX4_newCard_124 : decode cX4_newCard 124 = .ok (.getfield 141, 3) := dk_180 0 141 (dk_at dksX4_newCard_5 4 rfl rfl)
theorem dX4_newCard_127 : decode cX4_newCard 127 = .ok (.iconst 1, 1) := dk_4 (dk_at dksX4_newCard_5 7 rfl rfl)
theorem dX4_newCard_128 : decode cX4_newCard 128 = .ok (.iload_n 1, 1) := dk_27 (dk_at dksX4_newCard_5 8 rfl rfl)
theorem dX4_newCard_129 : decode cX4_newCard 129 = .ok (.ishl, 1) := dk_120 (dk_at dksX4_newCard_5 9 rfl rfl)
theorem dX4_newCard_130 : decode cX4_newCard 130 = .ok (.ior, 1) := dk_128 (dk_at dksX4_newCard_5 10 rfl rfl)
theorem dX4_newCard_131 : decode cX4_newCard 131 = .ok (.putfield 141, 3) := dk_181 0 141 (dk_at dksX4_newCard_5 11 rfl rfl)
theorem dX4_newCard_134 : decode cX4_newCard 134 = .ok (.return_, 1) := dk_177 (dk_at dksX4_newCard_5 14 rfl rfl)
theorem q143 : (Jvm.Cond.initialized "CardHolder$Reader") ∈ lw_all := lw_g (lw_at lw_m1 8 rfl) rfl
theorem q186 : (Jvm.Cond.fieldLinkNest "CardHolder$Reader" (168 : Nat) "CardHolder$City" "wear" "I" "CardHolder") ∈ lw_tbl := lw_at lw_m1 51 rfl
theorem q190 : (Jvm.Cond.fieldLinkNest "CardHolder$Reader" (162 : Nat) "CardHolder$City" "lines" "I" "CardHolder") ∈ lw_tbl := lw_at lw_m1 55 rfl
theorem q194 : (Jvm.Cond.fieldLinkNest "CardHolder$Reader" (114 : Nat) "CardHolder$City" "persons" "I" "CardHolder") ∈ lw_tbl := lw_at lw_m1 59 rfl
theorem q198 : (Jvm.Cond.fieldLinkNest "CardHolder$Reader" (148 : Nat) "CardHolder$City" "forged" "I" "CardHolder") ∈ lw_tbl := lw_at lw_m1 63 rfl
theorem q201 : (Jvm.Cond.fieldLinkNest "CardHolder$Reader" (141 : Nat) "CardHolder$City" "told" "I" "CardHolder") ∈ lw_tbl := lw_at lw_m1 66 rfl
theorem q203 : (Jvm.Cond.fieldLinkNest "CardHolder$Reader" (117 : Nat) "CardHolder$City" "worth" "[I" "CardHolder") ∈ lw_tbl := lw_at lw_m1 68 rfl
theorem q206 : (Jvm.Cond.fieldLinkNest "CardHolder$Reader" (126 : Nat) "CardHolder$City" "does" "[I" "CardHolder") ∈ lw_tbl := lw_at lw_m1 71 rfl
theorem q209 : (Jvm.Cond.fieldLinkNest "CardHolder$Reader" (134 : Nat) "CardHolder$City" "wishes" "[I" "CardHolder") ∈ lw_tbl := lw_at lw_m1 74 rfl
theorem q212 : (Jvm.Cond.fieldLinkNest "CardHolder$Reader" (138 : Nat) "CardHolder$City" "holder" "[I" "CardHolder") ∈ lw_tbl := lw_at lw_m1 77 rfl
theorem q281 : (Jvm.Cond.fieldLinkNest "CardHolder$Reader" (44 : Nat) "CardHolder" "tape" "[B" "CardHolder") ∈ lw_tbl := lw_at lw_m1 146 rfl
theorem q283 : (Jvm.Cond.fieldLinkNest "CardHolder$Reader" (15 : Nat) "CardHolder" "taped" "I" "CardHolder") ∈ lw_tbl := lw_at lw_m1 148 rfl
theorem q388 : (Jvm.Cond.instantiable "CardHolder$Reader" (7 : Nat)) ∈ lw_all := lw_g (lw_at lw_m2 13 rfl) rfl
theorem q390 : (Jvm.Cond.instanceMethod ({ cls := "CardHolder$Reader", name := "<init>", desc := "(LCardHolder;)V" } : Jvm.MethodName)) ∈ lw_all := lw_g (lw_at lw_m2 15 rfl) rfl
theorem q391 : (Jvm.Cond.code ({ cls := "CardHolder$Reader", name := "<init>", desc := "(LCardHolder;)V" } : Jvm.MethodName) prog_8_method_1_code (2 : Nat) (Option.none : Option Jvm.ClassFile.FieldType)) ∈ lw_all := lw_g (lw_at lw_m2 16 rfl) rfl
theorem q392 : (Jvm.Cond.methodLink "CardHolder$Reader" (9 : Nat) ({ cls := "java/lang/Object", name := "<init>", desc := "()V" } : Jvm.MethodName)) ∈ lw_all := lw_g (lw_at lw_m2 17 rfl) rfl
theorem q393 : (Jvm.Cond.classLink "CardHolder$Reader" (22 : Nat) "CardHolder$City") ∈ lw_all := lw_g (lw_at lw_m2 18 rfl) rfl
theorem q394 : (Jvm.Cond.methodLinkNest "CardHolder$Reader" (24 : Nat) ({ cls := "CardHolder$City", name := "<init>", desc := "()V" } : Jvm.MethodName) "CardHolder") ∈ lw_tbl := lw_at lw_m2 19 rfl
theorem q395 : (Jvm.Cond.fieldLink "CardHolder$Reader" (29 : Nat) "CardHolder$Token" "END" "LCardHolder$Token;") ∈ lw_all := lw_g (lw_at lw_m2 20 rfl) rfl
theorem q397 : (Jvm.Cond.methodLink "CardHolder$Reader" (38 : Nat) ({ cls := "CardHolder$Reader", name := "next", desc := "()V" } : Jvm.MethodName)) ∈ lw_all := lw_g (lw_at lw_m2 22 rfl) rfl
theorem q398 : (Jvm.Cond.privateMethod ({ cls := "CardHolder$Reader", name := "next", desc := "()V" } : Jvm.MethodName)) ∈ lw_tbl := lw_at lw_m2 23 rfl
theorem q399 : (Jvm.Cond.instanceMethod ({ cls := "CardHolder$Reader", name := "next", desc := "()V" } : Jvm.MethodName)) ∈ lw_all := lw_g (lw_at lw_m2 24 rfl) rfl
theorem q400 : (Jvm.Cond.code ({ cls := "CardHolder$Reader", name := "next", desc := "()V" } : Jvm.MethodName) prog_8_method_3_code (1 : Nat) (Option.none : Option Jvm.ClassFile.FieldType)) ∈ lw_all := lw_g (lw_at lw_m2 25 rfl) rfl
theorem q401 : (Jvm.Cond.methodLink "CardHolder$Reader" (55 : Nat) ({ cls := "CardHolder$Reader", name := "isNext", desc := "(II)Z" } : Jvm.MethodName)) ∈ lw_all := lw_g (lw_at lw_m2 26 rfl) rfl
theorem q402 : (Jvm.Cond.privateMethod ({ cls := "CardHolder$Reader", name := "isNext", desc := "(II)Z" } : Jvm.MethodName)) ∈ lw_tbl := lw_at lw_m2 27 rfl
theorem q403 : (Jvm.Cond.instanceMethod ({ cls := "CardHolder$Reader", name := "isNext", desc := "(II)Z" } : Jvm.MethodName)) ∈ lw_all := lw_g (lw_at lw_m2 28 rfl) rfl
theorem q404 : (Jvm.Cond.code ({ cls := "CardHolder$Reader", name := "isNext", desc := "(II)Z" } : Jvm.MethodName) prog_8_method_2_code (3 : Nat) (Option.some Jvm.ClassFile.FieldType.boolean)) ∈ lw_all := lw_g (lw_at lw_m2 29 rfl) rfl
theorem q405 : (Jvm.Cond.methodLinkNest "CardHolder$Reader" (48 : Nat) ({ cls := "CardHolder", name := "isIn", desc := "(JJJ)Z" } : Jvm.MethodName) "CardHolder") ∈ lw_tbl := lw_at lw_m2 30 rfl
theorem q406 : (Jvm.Cond.fieldLink "CardHolder$Reader" (59 : Nat) "CardHolder$Token" "WORD" "LCardHolder$Token;") ∈ lw_all := lw_g (lw_at lw_m2 31 rfl) rfl
theorem q408 : (Jvm.Cond.constant "CardHolder$Reader" (65 : Nat) (99999 : Int32)) ∈ lw_all := lw_g (lw_at lw_m2 33 rfl) rfl
theorem q409 : (Jvm.Cond.methodLink "CardHolder$Reader" (66 : Nat) ({ cls := "java/lang/Math", name := "min", desc := "(II)I" } : Jvm.MethodName)) ∈ lw_all := lw_g (lw_at lw_m2 34 rfl) rfl
theorem q412 : (Jvm.Cond.fieldLink "CardHolder$Reader" (72 : Nat) "CardHolder$Token" "NUMBER" "LCardHolder$Token;") ∈ lw_all := lw_g (lw_at lw_m2 37 rfl) rfl
theorem q414 : (Jvm.Cond.fieldLink "CardHolder$Reader" (75 : Nat) "CardHolder$Token" "STOP" "LCardHolder$Token;") ∈ lw_all := lw_g (lw_at lw_m2 39 rfl) rfl
theorem q416 : (Jvm.Cond.fieldLink "CardHolder$Reader" (78 : Nat) "CardHolder$Token" "NONE" "LCardHolder$Token;") ∈ lw_all := lw_g (lw_at lw_m2 41 rfl) rfl
theorem q418 : (Jvm.Cond.fieldLink "CardHolder$Reader" (19 : Nat) "CardHolder$Reader" "size" "I") ∈ lw_all := lw_g (lw_at lw_m2 43 rfl) rfl
theorem q419 : (Jvm.Cond.fieldLink "CardHolder$Reader" (25 : Nat) "CardHolder$Reader" "city" "LCardHolder$City;") ∈ lw_all := lw_g (lw_at lw_m2 44 rfl) rfl
theorem q420 : (Jvm.Cond.fieldLink "CardHolder$Reader" (41 : Nat) "CardHolder$Reader" "at" "I") ∈ lw_all := lw_g (lw_at lw_m2 45 rfl) rfl
theorem q421 : (Jvm.Cond.fieldLink "CardHolder$Reader" (52 : Nat) "CardHolder$Reader" "from" "I") ∈ lw_all := lw_g (lw_at lw_m2 46 rfl) rfl
theorem q422 : (Jvm.Cond.fieldLink "CardHolder$Reader" (62 : Nat) "CardHolder$Reader" "value" "I") ∈ lw_all := lw_g (lw_at lw_m2 47 rfl) rfl
theorem q423 : (Jvm.Cond.fieldLink "CardHolder$Reader" (35 : Nat) "CardHolder$Reader" "token" "LCardHolder$Token;") ∈ lw_all := lw_g (lw_at lw_m2 48 rfl) rfl
theorem q424 : (Jvm.Cond.fieldLink "CardHolder$Reader" (3 : Nat) "CardHolder$Reader" "this$0" "LCardHolder;") ∈ lw_all := lw_g (lw_at lw_m2 49 rfl) rfl
theorem q425 : (Jvm.Cond.laysFinal "CardHolder$Reader" "CardHolder$Reader" "size" "I") ∈ lw_all := lw_g (lw_at lw_m2 50 rfl) rfl
theorem q426 : (Jvm.Cond.soleField "CardHolder$Reader" "size") ∈ lw_all := lw_g (lw_at lw_m2 51 rfl) rfl
theorem q427 : (Jvm.Cond.laysFinal "CardHolder$Reader" "CardHolder$Reader" "city" "LCardHolder$City;") ∈ lw_all := lw_g (lw_at lw_m2 52 rfl) rfl
theorem q428 : (Jvm.Cond.soleField "CardHolder$Reader" "city") ∈ lw_all := lw_g (lw_at lw_m2 53 rfl) rfl
theorem q429 : (Jvm.Cond.lays "CardHolder$Reader" "CardHolder$Reader" "at" "I") ∈ lw_all := lw_g (lw_at lw_m2 54 rfl) rfl
theorem q430 : (Jvm.Cond.soleField "CardHolder$Reader" "at") ∈ lw_all := lw_g (lw_at lw_m2 55 rfl) rfl
theorem q431 : (Jvm.Cond.lays "CardHolder$Reader" "CardHolder$Reader" "from" "I") ∈ lw_all := lw_g (lw_at lw_m2 56 rfl) rfl
theorem q432 : (Jvm.Cond.soleField "CardHolder$Reader" "from") ∈ lw_all := lw_g (lw_at lw_m2 57 rfl) rfl
theorem q433 : (Jvm.Cond.lays "CardHolder$Reader" "CardHolder$Reader" "value" "I") ∈ lw_all := lw_g (lw_at lw_m2 58 rfl) rfl
theorem q434 : (Jvm.Cond.soleField "CardHolder$Reader" "value") ∈ lw_all := lw_g (lw_at lw_m2 59 rfl) rfl
theorem q435 : (Jvm.Cond.lays "CardHolder$Reader" "CardHolder$Reader" "token" "LCardHolder$Token;") ∈ lw_all := lw_g (lw_at lw_m2 60 rfl) rfl
theorem q436 : (Jvm.Cond.soleField "CardHolder$Reader" "token") ∈ lw_all := lw_g (lw_at lw_m2 61 rfl) rfl
theorem q437 : (Jvm.Cond.laysFinal "CardHolder$Reader" "CardHolder$Reader" "this$0" "LCardHolder;") ∈ lw_all := lw_g (lw_at lw_m2 62 rfl) rfl
theorem q438 : (Jvm.Cond.soleField "CardHolder$Reader" "this$0") ∈ lw_all := lw_g (lw_at lw_m2 63 rfl) rfl
theorem q439 : (Jvm.Cond.superclass "CardHolder$Reader" "java/lang/Object") ∈ lw_all := lw_g (lw_at lw_m2 64 rfl) rfl
theorem q441 : (Jvm.Cond.instanceMethod ({ cls := "CardHolder$Reader", name := "read", desc := "()LCardHolder$City;" } : Jvm.MethodName)) ∈ lw_all := lw_g (lw_at lw_m2 66 rfl) rfl
theorem q442 : (Jvm.Cond.selects "CardHolder$Reader" ({ cls := "CardHolder$Reader", name := "read", desc := "()LCardHolder$City;" } : Jvm.MethodName) ({ cls := "CardHolder$Reader", name := "read", desc := "()LCardHolder$City;" } : Jvm.MethodName)) ∈ lw_all := lw_g (lw_at lw_m2 67 rfl) rfl
theorem q443 : (Jvm.Cond.code ({ cls := "CardHolder$Reader", name := "read", desc := "()LCardHolder$City;" } : Jvm.MethodName) prog_8_method_14_code (1 : Nat) (Option.some (Jvm.ClassFile.FieldType.object "CardHolder$City"))) ∈ lw_all := lw_g (lw_at lw_m2 68 rfl) rfl
theorem q444 : (Jvm.Cond.stringRef "CardHolder$Reader" (165 : Nat) "city") ∈ lw_tbl := lw_at lw_m2 69 rfl
theorem q445 : (Jvm.Cond.methodLink "CardHolder$Reader" (107 : Nat) ({ cls := "CardHolder$Reader", name := "needs", desc := "(Ljava/lang/String;)V" } : Jvm.MethodName)) ∈ lw_all := lw_g (lw_at lw_m2 70 rfl) rfl
theorem q446 : (Jvm.Cond.privateMethod ({ cls := "CardHolder$Reader", name := "needs", desc := "(Ljava/lang/String;)V" } : Jvm.MethodName)) ∈ lw_tbl := lw_at lw_m2 71 rfl
theorem q447 : (Jvm.Cond.instanceMethod ({ cls := "CardHolder$Reader", name := "needs", desc := "(Ljava/lang/String;)V" } : Jvm.MethodName)) ∈ lw_all := lw_g (lw_at lw_m2 72 rfl) rfl
theorem q448 : (Jvm.Cond.code ({ cls := "CardHolder$Reader", name := "needs", desc := "(Ljava/lang/String;)V" } : Jvm.MethodName) prog_8_method_7_code (2 : Nat) (Option.none : Option Jvm.ClassFile.FieldType)) ∈ lw_all := lw_g (lw_at lw_m2 73 rfl) rfl
theorem q449 : (Jvm.Cond.methodLink "CardHolder$Reader" (100 : Nat) ({ cls := "CardHolder$Reader", name := "takes", desc := "(Ljava/lang/String;)Z" } : Jvm.MethodName)) ∈ lw_all := lw_g (lw_at lw_m2 74 rfl) rfl
theorem q450 : (Jvm.Cond.privateMethod ({ cls := "CardHolder$Reader", name := "takes", desc := "(Ljava/lang/String;)Z" } : Jvm.MethodName)) ∈ lw_tbl := lw_at lw_m2 75 rfl
theorem q451 : (Jvm.Cond.instanceMethod ({ cls := "CardHolder$Reader", name := "takes", desc := "(Ljava/lang/String;)Z" } : Jvm.MethodName)) ∈ lw_all := lw_g (lw_at lw_m2 76 rfl) rfl
theorem q452 : (Jvm.Cond.code ({ cls := "CardHolder$Reader", name := "takes", desc := "(Ljava/lang/String;)Z" } : Jvm.MethodName) prog_8_method_6_code (3 : Nat) (Option.some Jvm.ClassFile.FieldType.boolean)) ∈ lw_all := lw_g (lw_at lw_m2 77 rfl) rfl
theorem q453 : (Jvm.Cond.methodLink "CardHolder$Reader" (96 : Nat) ({ cls := "CardHolder$Reader", name := "is", desc := "(Ljava/lang/String;)Z" } : Jvm.MethodName)) ∈ lw_all := lw_g (lw_at lw_m2 78 rfl) rfl
theorem q454 : (Jvm.Cond.privateMethod ({ cls := "CardHolder$Reader", name := "is", desc := "(Ljava/lang/String;)Z" } : Jvm.MethodName)) ∈ lw_tbl := lw_at lw_m2 79 rfl
theorem q455 : (Jvm.Cond.instanceMethod ({ cls := "CardHolder$Reader", name := "is", desc := "(Ljava/lang/String;)Z" } : Jvm.MethodName)) ∈ lw_all := lw_g (lw_at lw_m2 80 rfl) rfl
theorem q456 : (Jvm.Cond.code ({ cls := "CardHolder$Reader", name := "is", desc := "(Ljava/lang/String;)Z" } : Jvm.MethodName) prog_8_method_5_code (3 : Nat) (Option.some Jvm.ClassFile.FieldType.boolean)) ∈ lw_all := lw_g (lw_at lw_m2 81 rfl) rfl
theorem q457 : (Jvm.Cond.methodLink "CardHolder$Reader" (86 : Nat) ({ cls := "java/lang/String", name := "length", desc := "()I" } : Jvm.MethodName)) ∈ lw_all := lw_g (lw_at lw_m2 82 rfl) rfl
theorem q467 : (Jvm.Cond.methodLink "CardHolder$Reader" (92 : Nat) ({ cls := "java/lang/String", name := "charAt", desc := "(I)C" } : Jvm.MethodName)) ∈ lw_all := lw_g (lw_at lw_m2 92 rfl) rfl
theorem q505 : (Jvm.Cond.methodLink "CardHolder$Reader" (103 : Nat) ({ cls := "CardHolder$Reader", name := "wrong", desc := "(I)LCardHolder$Fault;" } : Jvm.MethodName)) ∈ lw_all := lw_g (lw_at lw_m2 130 rfl) rfl
theorem q506 : (Jvm.Cond.privateMethod ({ cls := "CardHolder$Reader", name := "wrong", desc := "(I)LCardHolder$Fault;" } : Jvm.MethodName)) ∈ lw_tbl := lw_at lw_m2 131 rfl
theorem q507 : (Jvm.Cond.instanceMethod ({ cls := "CardHolder$Reader", name := "wrong", desc := "(I)LCardHolder$Fault;" } : Jvm.MethodName)) ∈ lw_all := lw_g (lw_at lw_m2 132 rfl) rfl
theorem q508 : (Jvm.Cond.code ({ cls := "CardHolder$Reader", name := "wrong", desc := "(I)LCardHolder$Fault;" } : Jvm.MethodName) prog_8_method_4_code (2 : Nat) (Option.some (Jvm.ClassFile.FieldType.object "CardHolder$Fault"))) ∈ lw_all := lw_g (lw_at lw_m2 133 rfl) rfl
theorem q509 : (Jvm.Cond.classLink "CardHolder$Reader" (81 : Nat) "CardHolder$Fault") ∈ lw_all := lw_g (lw_at lw_m2 134 rfl) rfl
theorem q563 : (Jvm.Cond.methodLink "CardHolder$Reader" (83 : Nat) ({ cls := "CardHolder$Fault", name := "<init>", desc := "(II)V" } : Jvm.MethodName)) ∈ lw_all := lw_g (lw_at lw_m2 188 rfl) rfl
theorem q593 : (Jvm.Cond.stringRef "CardHolder$Reader" (166 : Nat) "wear") ∈ lw_tbl := lw_at lw_m2 218 rfl
theorem q594 : (Jvm.Cond.methodLink "CardHolder$Reader" (122 : Nat) ({ cls := "CardHolder$Reader", name := "told", desc := "(Ljava/lang/String;II)I" } : Jvm.MethodName)) ∈ lw_all := lw_g (lw_at lw_m2 219 rfl) rfl
theorem q595 : (Jvm.Cond.privateMethod ({ cls := "CardHolder$Reader", name := "told", desc := "(Ljava/lang/String;II)I" } : Jvm.MethodName)) ∈ lw_tbl := lw_at lw_m2 220 rfl
theorem q596 : (Jvm.Cond.instanceMethod ({ cls := "CardHolder$Reader", name := "told", desc := "(Ljava/lang/String;II)I" } : Jvm.MethodName)) ∈ lw_all := lw_g (lw_at lw_m2 221 rfl) rfl
theorem q597 : (Jvm.Cond.code ({ cls := "CardHolder$Reader", name := "told", desc := "(Ljava/lang/String;II)I" } : Jvm.MethodName) prog_8_method_9_code (4 : Nat) (Option.some Jvm.ClassFile.FieldType.int)) ∈ lw_all := lw_g (lw_at lw_m2 222 rfl) rfl
theorem q598 : (Jvm.Cond.methodLink "CardHolder$Reader" (111 : Nat) ({ cls := "CardHolder$Reader", name := "number", desc := "(II)I" } : Jvm.MethodName)) ∈ lw_all := lw_g (lw_at lw_m2 223 rfl) rfl
theorem q599 : (Jvm.Cond.privateMethod ({ cls := "CardHolder$Reader", name := "number", desc := "(II)I" } : Jvm.MethodName)) ∈ lw_tbl := lw_at lw_m2 224 rfl
theorem q600 : (Jvm.Cond.instanceMethod ({ cls := "CardHolder$Reader", name := "number", desc := "(II)I" } : Jvm.MethodName)) ∈ lw_all := lw_g (lw_at lw_m2 225 rfl) rfl
theorem q601 : (Jvm.Cond.code ({ cls := "CardHolder$Reader", name := "number", desc := "(II)I" } : Jvm.MethodName) prog_8_method_8_code (4 : Nat) (Option.some Jvm.ClassFile.FieldType.int)) ∈ lw_all := lw_g (lw_at lw_m2 226 rfl) rfl
theorem q602 : (Jvm.Cond.methodLink "CardHolder$Reader" (170 : Nat) ({ cls := "CardHolder$Reader", name := "line", desc := "()V" } : Jvm.MethodName)) ∈ lw_all := lw_g (lw_at lw_m2 227 rfl) rfl
theorem q603 : (Jvm.Cond.privateMethod ({ cls := "CardHolder$Reader", name := "line", desc := "()V" } : Jvm.MethodName)) ∈ lw_tbl := lw_at lw_m2 228 rfl
theorem q604 : (Jvm.Cond.instanceMethod ({ cls := "CardHolder$Reader", name := "line", desc := "()V" } : Jvm.MethodName)) ∈ lw_all := lw_g (lw_at lw_m2 229 rfl) rfl
theorem q605 : (Jvm.Cond.code ({ cls := "CardHolder$Reader", name := "line", desc := "()V" } : Jvm.MethodName) prog_8_method_13_code (1 : Nat) (Option.none : Option Jvm.ClassFile.FieldType)) ∈ lw_all := lw_g (lw_at lw_m2 230 rfl) rfl
theorem q606 : (Jvm.Cond.stringRef "CardHolder$Reader" (152 : Nat) "person") ∈ lw_tbl := lw_at lw_m2 231 rfl
theorem q607 : (Jvm.Cond.methodLink "CardHolder$Reader" (154 : Nat) ({ cls := "CardHolder$Reader", name := "newPerson", desc := "()V" } : Jvm.MethodName)) ∈ lw_all := lw_g (lw_at lw_m2 232 rfl) rfl
theorem q608 : (Jvm.Cond.privateMethod ({ cls := "CardHolder$Reader", name := "newPerson", desc := "()V" } : Jvm.MethodName)) ∈ lw_tbl := lw_at lw_m2 233 rfl
theorem q609 : (Jvm.Cond.instanceMethod ({ cls := "CardHolder$Reader", name := "newPerson", desc := "()V" } : Jvm.MethodName)) ∈ lw_all := lw_g (lw_at lw_m2 234 rfl) rfl
theorem q610 : (Jvm.Cond.code ({ cls := "CardHolder$Reader", name := "newPerson", desc := "()V" } : Jvm.MethodName) prog_8_method_11_code (2 : Nat) (Option.none : Option Jvm.ClassFile.FieldType)) ∈ lw_all := lw_g (lw_at lw_m2 235 rfl) rfl
theorem q611 : (Jvm.Cond.stringRef "CardHolder$Reader" (121 : Nat) "worth") ∈ lw_tbl := lw_at lw_m2 236 rfl
theorem q612 : (Jvm.Cond.stringRef "CardHolder$Reader" (129 : Nat) "does") ∈ lw_tbl := lw_at lw_m2 237 rfl
theorem q613 : (Jvm.Cond.methodLink "CardHolder$Reader" (130 : Nat) ({ cls := "CardHolder$Reader", name := "deeds", desc := "(Ljava/lang/String;)I" } : Jvm.MethodName)) ∈ lw_all := lw_g (lw_at lw_m2 238 rfl) rfl
theorem q614 : (Jvm.Cond.privateMethod ({ cls := "CardHolder$Reader", name := "deeds", desc := "(Ljava/lang/String;)I" } : Jvm.MethodName)) ∈ lw_tbl := lw_at lw_m2 239 rfl
theorem q615 : (Jvm.Cond.instanceMethod ({ cls := "CardHolder$Reader", name := "deeds", desc := "(Ljava/lang/String;)I" } : Jvm.MethodName)) ∈ lw_all := lw_g (lw_at lw_m3 0 rfl) rfl
theorem q616 : (Jvm.Cond.code ({ cls := "CardHolder$Reader", name := "deeds", desc := "(Ljava/lang/String;)I" } : Jvm.MethodName) prog_8_method_10_code (3 : Nat) (Option.some Jvm.ClassFile.FieldType.int)) ∈ lw_all := lw_g (lw_at lw_m3 1 rfl) rfl
theorem q617 : (Jvm.Cond.stringRef "CardHolder$Reader" (137 : Nat) "wishes") ∈ lw_tbl := lw_at lw_m3 2 rfl
theorem q618 : (Jvm.Cond.stringRef "CardHolder$Reader" (157 : Nat) "card") ∈ lw_tbl := lw_at lw_m3 3 rfl
theorem q619 : (Jvm.Cond.methodLink "CardHolder$Reader" (159 : Nat) ({ cls := "CardHolder$Reader", name := "newCard", desc := "()V" } : Jvm.MethodName)) ∈ lw_all := lw_g (lw_at lw_m3 4 rfl) rfl
theorem q620 : (Jvm.Cond.privateMethod ({ cls := "CardHolder$Reader", name := "newCard", desc := "()V" } : Jvm.MethodName)) ∈ lw_tbl := lw_at lw_m3 5 rfl
theorem q621 : (Jvm.Cond.instanceMethod ({ cls := "CardHolder$Reader", name := "newCard", desc := "()V" } : Jvm.MethodName)) ∈ lw_all := lw_g (lw_at lw_m3 6 rfl) rfl
theorem q622 : (Jvm.Cond.code ({ cls := "CardHolder$Reader", name := "newCard", desc := "()V" } : Jvm.MethodName) prog_8_method_12_code (2 : Nat) (Option.none : Option Jvm.ClassFile.FieldType)) ∈ lw_all := lw_g (lw_at lw_m3 7 rfl) rfl
theorem q623 : (Jvm.Cond.methodLinkNest "CardHolder$Reader" (143 : Nat) ({ cls := "CardHolder", name := "isOf", desc := "(II)Z" } : Jvm.MethodName) "CardHolder") ∈ lw_tbl := lw_at lw_m3 8 rfl
theorem q626 : (Jvm.Cond.stringRef "CardHolder$Reader" (146 : Nat) "to") ∈ lw_tbl := lw_at lw_m3 11 rfl
theorem q627 : (Jvm.Cond.stringRef "CardHolder$Reader" (151 : Nat) "forged") ∈ lw_tbl := lw_at lw_m3 12 rfl
theorem q717 : (Jvm.Cond.selects "CardHolder$Reader" ({ cls := "java/lang/Object", name := "getClass", desc := "()Ljava/lang/Class;" } : Jvm.MethodName) ({ cls := "java/lang/Object", name := "getClass", desc := "()Ljava/lang/Class;" } : Jvm.MethodName)) ∈ lw_all := lw_g (lw_at lw_m3 102 rfl) rfl
theorem q2094 : (Jvm.Cond.castable "CardHolder$Reader" "java/lang/Object") ∈ lw_tbl := lw_at lw_m9 39 rfl
theorem in_X4 : ∀ w ∈ wsX40, w ∈ lw_all := lw_in wsX40 [425, 427, 429, 431, 433, 435, 437] (by decide +kernel) (by decide +kernel)

/-! CardHolder$Fault -/
set_option maxRecDepth 100000
def RX5 : String := "CardHolder$Fault"
def TX5 : u_T := fun k => match k with
  | 0 => ("java/lang/Throwable", "cause", "Ljava/lang/Throwable;", false)
  | 1 => ("java/lang/Throwable", "stackTrace", "[Ljava/lang/StackTraceElement;", false)
  | 2 => ("java/lang/Throwable", "suppressedExceptions", "Ljava/util/List;", false)
  | 3 => ("java/lang/Throwable", "detailMessage", "Ljava/lang/String;", false)
  | 4 => ("java/lang/Throwable", "backtrace", "Ljava/lang/Object;", false)
  | 5 => ("java/lang/Throwable", "depth", "I", false)
  | 6 => ("CardHolder$Fault", "kind", "I", true)
  | _ => ("CardHolder$Fault", "place", "I", true)
def tyX5 : Nat → FieldType := fun k => match k with
  | 0 => .object "java/lang/Throwable"
  | 1 => .array (.object "java/lang/StackTraceElement")
  | 2 => .object "java/util/List"
  | 3 => .object "java/lang/String"
  | 4 => .object "java/lang/Object"
  | 5 => .int
  | 6 => .int
  | _ => .int
abbrev wsX50 : List Cond := u_ws RX5 TX5 8
theorem nmX5 : ∀ a, a < 8 → ∀ b, b < 8 → a ≠ b → (TX5 a).2.1 ≠ (TX5 b).2.1 := by decide +kernel
theorem tyX5_ok : ∀ k, k < 8 → parseFieldDescriptor (TX5 k).2.2.1 = some (tyX5 k) := by decide +kernel
abbrev cX5_init : ByteArray := prog_6_method_1_code
def yX5_init : MethodName := ⟨RX5, "<init>", "(II)V"⟩
def dkwX5_init_0 : List UInt8 := [42, 1, 1, 3, 3, 183, 0, 1, 42, 27, 181, 0, 7, 42, 28, 181, 0, 13, 177]
abbrev dktX5_init_0 : List UInt8 := dkwX5_init_0 ++ []
theorem dksX5_init_0 : cX5_init.data.toList.drop 0 = dktX5_init_0 := by decide +kernel
theorem dX5_init_0 : decode cX5_init 0 = .ok (.aload_n 0, 1) := dk_42 (dk_at dksX5_init_0 0 rfl rfl)
theorem dX5_init_1 : decode cX5_init 1 = .ok (.aconst_null, 1) := dk_1 (dk_at dksX5_init_0 1 rfl rfl)
theorem dX5_init_2 : decode cX5_init 2 = .ok (.aconst_null, 1) := dk_1 (dk_at dksX5_init_0 2 rfl rfl)
theorem dX5_init_3 : decode cX5_init 3 = .ok (.iconst 0, 1) := dk_3 (dk_at dksX5_init_0 3 rfl rfl)
theorem dX5_init_4 : decode cX5_init 4 = .ok (.iconst 0, 1) := dk_3 (dk_at dksX5_init_0 4 rfl rfl)
theorem dX5_init_5 : decode cX5_init 5 = .ok (.invokespecial 1, 3) := dk_183 0 1 (dk_at dksX5_init_0 5 rfl rfl)
theorem dX5_init_8 : decode cX5_init 8 = .ok (.aload_n 0, 1) := dk_42 (dk_at dksX5_init_0 8 rfl rfl)
theorem dX5_init_9 : decode cX5_init 9 = .ok (.iload_n 1, 1) := dk_27 (dk_at dksX5_init_0 9 rfl rfl)
theorem dX5_init_10 : decode cX5_init 10 = .ok (.putfield 7, 3) := dk_181 0 7 (dk_at dksX5_init_0 10 rfl rfl)
theorem dX5_init_13 : decode cX5_init 13 = .ok (.aload_n 0, 1) := dk_42 (dk_at dksX5_init_0 13 rfl rfl)
theorem dX5_init_14 : decode cX5_init 14 = .ok (.iload_n 2, 1) := dk_28 (dk_at dksX5_init_0 14 rfl rfl)
theorem dX5_init_15 : decode cX5_init 15 = .ok (.putfield 13, 3) := dk_181 0 13 (dk_at dksX5_init_0 15 rfl rfl)
theorem dX5_init_18 : decode cX5_init 18 = .ok (.return_, 1) := dk_177 (dk_at dksX5_init_0 18 rfl rfl)
theorem q153 : (Jvm.Cond.initialized "CardHolder$Fault") ∈ lw_all := lw_g (lw_at lw_m1 18 rfl) rfl
theorem q510 : (Jvm.Cond.instantiable "CardHolder$Fault" (8 : Nat)) ∈ lw_all := lw_g (lw_at lw_m2 135 rfl) rfl
theorem q511 : (Jvm.Cond.castable "CardHolder$Fault" "CardHolder$Fault") ∈ lw_tbl := lw_at lw_m2 136 rfl
theorem q516 : (Jvm.Cond.selects "CardHolder$Fault" ({ cls := "java/lang/Throwable", name := "fillInStackTrace", desc := "(I)Ljava/lang/Throwable;" } : Jvm.MethodName) ({ cls := "java/lang/Throwable", name := "fillInStackTrace", desc := "(I)Ljava/lang/Throwable;" } : Jvm.MethodName)) ∈ lw_all := lw_g (lw_at lw_m2 141 rfl) rfl
theorem q517 : (Jvm.Cond.selects "CardHolder$Fault" ({ cls := "java/lang/Throwable", name := "fillInStackTrace", desc := "()Ljava/lang/Throwable;" } : Jvm.MethodName) ({ cls := "java/lang/Throwable", name := "fillInStackTrace", desc := "()Ljava/lang/Throwable;" } : Jvm.MethodName)) ∈ lw_all := lw_g (lw_at lw_m2 142 rfl) rfl
theorem q518 : (Jvm.Cond.lays "CardHolder$Fault" "java/lang/Throwable" "cause" "Ljava/lang/Throwable;") ∈ lw_all := lw_g (lw_at lw_m2 143 rfl) rfl
theorem q520 : (Jvm.Cond.lays "CardHolder$Fault" "java/lang/Throwable" "stackTrace" "[Ljava/lang/StackTraceElement;") ∈ lw_all := lw_g (lw_at lw_m2 145 rfl) rfl
theorem q522 : (Jvm.Cond.lays "CardHolder$Fault" "java/lang/Throwable" "suppressedExceptions" "Ljava/util/List;") ∈ lw_all := lw_g (lw_at lw_m2 147 rfl) rfl
theorem q524 : (Jvm.Cond.lays "CardHolder$Fault" "java/lang/Throwable" "detailMessage" "Ljava/lang/String;") ∈ lw_all := lw_g (lw_at lw_m2 149 rfl) rfl
theorem q526 : (Jvm.Cond.lays "CardHolder$Fault" "java/lang/Throwable" "backtrace" "Ljava/lang/Object;") ∈ lw_all := lw_g (lw_at lw_m2 151 rfl) rfl
theorem q564 : (Jvm.Cond.instanceMethod ({ cls := "CardHolder$Fault", name := "<init>", desc := "(II)V" } : Jvm.MethodName)) ∈ lw_all := lw_g (lw_at lw_m2 189 rfl) rfl
theorem q565 : (Jvm.Cond.code ({ cls := "CardHolder$Fault", name := "<init>", desc := "(II)V" } : Jvm.MethodName) prog_6_method_1_code (3 : Nat) (Option.none : Option Jvm.ClassFile.FieldType)) ∈ lw_all := lw_g (lw_at lw_m2 190 rfl) rfl
theorem q566 : (Jvm.Cond.methodLink "CardHolder$Fault" (1 : Nat) ({ cls := "java/lang/Exception", name := "<init>", desc := "(Ljava/lang/String;Ljava/lang/Throwable;ZZ)V" } : Jvm.MethodName)) ∈ lw_all := lw_g (lw_at lw_m2 191 rfl) rfl
theorem q572 : (Jvm.Cond.fieldLink "CardHolder$Fault" (7 : Nat) "CardHolder$Fault" "kind" "I") ∈ lw_all := lw_g (lw_at lw_m2 197 rfl) rfl
theorem q574 : (Jvm.Cond.fieldLink "CardHolder$Fault" (13 : Nat) "CardHolder$Fault" "place" "I") ∈ lw_all := lw_g (lw_at lw_m2 199 rfl) rfl
theorem q581 : (Jvm.Cond.laysFinal "CardHolder$Fault" "CardHolder$Fault" "kind" "I") ∈ lw_all := lw_g (lw_at lw_m2 206 rfl) rfl
theorem q582 : (Jvm.Cond.soleField "CardHolder$Fault" "kind") ∈ lw_all := lw_g (lw_at lw_m2 207 rfl) rfl
theorem q583 : (Jvm.Cond.laysFinal "CardHolder$Fault" "CardHolder$Fault" "place" "I") ∈ lw_all := lw_g (lw_at lw_m2 208 rfl) rfl
theorem q584 : (Jvm.Cond.soleField "CardHolder$Fault" "place") ∈ lw_all := lw_g (lw_at lw_m2 209 rfl) rfl
theorem q589 : (Jvm.Cond.lays "CardHolder$Fault" "java/lang/Throwable" "depth" "I") ∈ lw_all := lw_g (lw_at lw_m2 214 rfl) rfl
theorem q592 : (Jvm.Cond.superclass "CardHolder$Fault" "java/lang/Exception") ∈ lw_all := lw_g (lw_at lw_m2 217 rfl) rfl
theorem q715 : (Jvm.Cond.selects "CardHolder$Fault" ({ cls := "java/lang/Object", name := "getClass", desc := "()Ljava/lang/Class;" } : Jvm.MethodName) ({ cls := "java/lang/Object", name := "getClass", desc := "()Ljava/lang/Class;" } : Jvm.MethodName)) ∈ lw_all := lw_g (lw_at lw_m3 100 rfl) rfl
theorem q2096 : (Jvm.Cond.castable "CardHolder$Fault" "java/lang/Object") ∈ lw_tbl := lw_at lw_m9 41 rfl
theorem in_X5 : ∀ w ∈ wsX50, w ∈ lw_all := lw_in wsX50 [518, 520, 522, 524, 526, 589, 581, 583] (by decide +kernel) (by decide +kernel)

/-! CardHolder$Act -/
set_option maxRecDepth 100000
def RX6 : String := "CardHolder$Act"
abbrev cX6_init : ByteArray := prog_2_method_1_code
def yX6_init : MethodName := ⟨RX6, "<init>", "()V"⟩
theorem dX6_init_0 : decode cX6_init 0 = .ok (.aload_n 0, 1) := by decide +kernel
theorem dX6_init_1 : decode cX6_init 1 = .ok (.invokespecial 1, 3) := by decide +kernel
theorem dX6_init_4 : decode cX6_init 4 = .ok (.return_, 1) := by decide +kernel
theorem q155 : (Jvm.Cond.initialized "CardHolder$Act") ∈ lw_all := lw_g (lw_at lw_m1 20 rfl) rfl
theorem q672 : (Jvm.Cond.instanceMethod ({ cls := "CardHolder$Act", name := "<init>", desc := "()V" } : Jvm.MethodName)) ∈ lw_all := lw_g (lw_at lw_m3 57 rfl) rfl
theorem q673 : (Jvm.Cond.code ({ cls := "CardHolder$Act", name := "<init>", desc := "()V" } : Jvm.MethodName) prog_2_method_1_code (1 : Nat) (Option.none : Option Jvm.ClassFile.FieldType)) ∈ lw_all := lw_g (lw_at lw_m3 58 rfl) rfl
theorem q674 : (Jvm.Cond.methodLink "CardHolder$Act" (1 : Nat) ({ cls := "java/lang/Object", name := "<init>", desc := "()V" } : Jvm.MethodName)) ∈ lw_all := lw_g (lw_at lw_m3 59 rfl) rfl
theorem q794 : (Jvm.Cond.declares ({ cls := "CardHolder$Act", name := "does", desc := "(IIII)V" } : Jvm.MethodName)) ∈ lw_tbl := lw_at lw_m3 179 rfl
theorem q795 : (Jvm.Cond.sameMethod "CardHolder$Act" "CardHolder$Act" "does" "(IIII)V") ∈ lw_all := lw_g (lw_at lw_m3 180 rfl) rfl

/-! CardHolder$Ask -/
set_option maxRecDepth 100000
def RX7 : String := "CardHolder$Ask"
def TX7 : u_T := fun k => match k with
  | _ => ("CardHolder$Ask", "this$0", "LCardHolder;", true)
def tyX7 : Nat → FieldType := fun k => match k with
  | _ => .object "CardHolder"
abbrev wsX70 : List Cond := u_ws RX7 TX7 1
theorem nmX7 : ∀ a, a < 1 → ∀ b, b < 1 → a ≠ b → (TX7 a).2.1 ≠ (TX7 b).2.1 := by decide +kernel
theorem tyX7_ok : ∀ k, k < 1 → parseFieldDescriptor (TX7 k).2.2.1 = some (tyX7 k) := by decide +kernel
abbrev cX7_init : ByteArray := prog_3_method_1_code
def yX7_init : MethodName := ⟨RX7, "<init>", "(LCardHolder;)V"⟩
def dkwX7_init_0 : List UInt8 := [42, 43, 181, 0, 3, 42, 183, 0, 9, 177]
abbrev dktX7_init_0 : List UInt8 := dkwX7_init_0 ++ []
theorem dksX7_init_0 : cX7_init.data.toList.drop 0 = dktX7_init_0 := by decide +kernel
theorem dX7_init_0 : decode cX7_init 0 = .ok (.aload_n 0, 1) := dk_42 (dk_at dksX7_init_0 0 rfl rfl)
theorem dX7_init_1 : decode cX7_init 1 = .ok (.aload_n 1, 1) := dk_43 (dk_at dksX7_init_0 1 rfl rfl)
theorem dX7_init_2 : decode cX7_init 2 = .ok (.putfield 3, 3) := dk_181 0 3 (dk_at dksX7_init_0 2 rfl rfl)
theorem dX7_init_5 : decode cX7_init 5 = .ok (.aload_n 0, 1) := dk_42 (dk_at dksX7_init_0 5 rfl rfl)
theorem dX7_init_6 : decode cX7_init 6 = .ok (.invokespecial 9, 3) := dk_183 0 9 (dk_at dksX7_init_0 6 rfl rfl)
theorem dX7_init_9 : decode cX7_init 9 = .ok (.return_, 1) := dk_177 (dk_at dksX7_init_0 9 rfl rfl)
abbrev cX7_does : ByteArray := prog_3_method_2_code
def yX7_does : MethodName := ⟨RX7, "does", "(IIII)V"⟩
def dkwX7_does_2 : List UInt8 := [42, 180, 0, 3, 180, 0, 27, 28, 2, 79, 42, 180, 0, 3, 89, 180, 0, 30, 4, 96, 181, 0, 30, 177]
abbrev dktX7_does_2 : List UInt8 := dkwX7_does_2 ++ []
def dkwX7_does_1 : List UInt8 := [46, 4, 96, 79, 42, 180, 0, 3, 180, 0, 19, 28, 46, 42, 180, 0, 3, 28, 182, 0, 23, 161, 0, 13]
abbrev dktX7_does_1 : List UInt8 := dkwX7_does_1 ++ dktX7_does_2
def dkwX7_does_0 : List UInt8 := [42, 180, 0, 3, 89, 180, 0, 15, 4, 28, 120, 128, 181, 0, 15, 42, 180, 0, 3, 180, 0, 19, 28, 92]
abbrev dktX7_does_0 : List UInt8 := dkwX7_does_0 ++ dktX7_does_1
theorem dksX7_does_0 : cX7_does.data.toList.drop 0 = dktX7_does_0 := by decide +kernel
theorem dksX7_does_1 : cX7_does.data.toList.drop 24 = dktX7_does_1 := dk_seg dksX7_does_0 24 rfl rfl
theorem dksX7_does_2 : cX7_does.data.toList.drop 48 = dktX7_does_2 := dk_seg dksX7_does_1 24 rfl rfl
theorem dX7_does_0 : decode cX7_does 0 = .ok (.aload_n 0, 1) := dk_42 (dk_at dksX7_does_0 0 rfl rfl)
theorem dX7_does_1 : decode cX7_does 1 = .ok (.getfield 3, 3) := dk_180 0 3 (dk_at dksX7_does_0 1 rfl rfl)
theorem dX7_does_4 : decode cX7_does 4 = .ok (.dup, 1) := dk_89 (dk_at dksX7_does_0 4 rfl rfl)
theorem dX7_does_5 : decode cX7_does 5 = .ok (.getfield 15, 3) := dk_180 0 15 (dk_at dksX7_does_0 5 rfl rfl)
theorem dX7_does_8 : decode cX7_does 8 = .ok (.iconst 1, 1) := dk_4 (dk_at dksX7_does_0 8 rfl rfl)
theorem dX7_does_9 : decode cX7_does 9 = .ok (.iload_n 2, 1) := dk_28 (dk_at dksX7_does_0 9 rfl rfl)
theorem dX7_does_10 : decode cX7_does 10 = .ok (.ishl, 1) := dk_120 (dk_at dksX7_does_0 10 rfl rfl)
theorem dX7_does_11 : decode cX7_does 11 = .ok (.ior, 1) := dk_128 (dk_at dksX7_does_0 11 rfl rfl)
theorem dX7_does_12 : decode cX7_does 12 = .ok (.putfield 15, 3) := dk_181 0 15 (dk_at dksX7_does_0 12 rfl rfl)
theorem dX7_does_15 : decode cX7_does 15 = .ok (.aload_n 0, 1) := dk_42 (dk_at dksX7_does_0 15 rfl rfl)
theorem dX7_does_16 : decode cX7_does 16 = .ok (.getfield 3, 3) := dk_180 0 3 (dk_at dksX7_does_0 16 rfl rfl)
theorem dX7_does_19 : decode cX7_does 19 = .ok (.getfield 19, 3) := dk_180 0 19 (dk_at dksX7_does_0 19 rfl rfl)
theorem dX7_does_22 : decode cX7_does 22 = .ok (.iload_n 2, 1) := dk_28 (dk_at dksX7_does_0 22 rfl rfl)
theorem dX7_does_23 : decode cX7_does 23 = .ok (.dup2, 1) := dk_92 (dk_at dksX7_does_0 23 rfl rfl)
theorem dX7_does_24 : decode cX7_does 24 = .ok (.iaload, 1) := dk_46 (dk_at dksX7_does_1 0 rfl rfl)
theorem dX7_does_25 : decode cX7_does 25 = .ok (.iconst 1, 1) := dk_4 (dk_at dksX7_does_1 1 rfl rfl)
theorem dX7_does_26 : decode cX7_does 26 = .ok (.iadd, 1) := dk_96 (dk_at dksX7_does_1 2 rfl rfl)
theorem dX7_does_27 : decode cX7_does 27 = .ok (.iastore, 1) := dk_79 (dk_at dksX7_does_1 3 rfl rfl)
theorem dX7_does_28 : decode cX7_does 28 = .ok (.aload_n 0, 1) := dk_42 (dk_at dksX7_does_1 4 rfl rfl)
theorem dX7_does_29 : decode cX7_does 29 = .ok (.getfield 3, 3) := dk_180 0 3 (dk_at dksX7_does_1 5 rfl rfl)
theorem dX7_does_32 : decode cX7_does 32 = .ok (.getfield 19, 3) := dk_180 0 19 (dk_at dksX7_does_1 8 rfl rfl)
theorem dX7_does_35 : decode cX7_does 35 = .ok (.iload_n 2, 1) := dk_28 (dk_at dksX7_does_1 11 rfl rfl)
theorem dX7_does_36 : decode cX7_does 36 = .ok (.iaload, 1) := dk_46 (dk_at dksX7_does_1 12 rfl rfl)
theorem dX7_does_37 : decode cX7_does 37 = .ok (.aload_n 0, 1) := dk_42 (dk_at dksX7_does_1 13 rfl rfl)
theorem dX7_does_38 : decode cX7_does 38 = .ok (.getfield 3, 3) := dk_180 0 3 (dk_at dksX7_does_1 14 rfl rfl)
theorem dX7_does_41 : decode cX7_does 41 = .ok (.iload_n 2, 1) := dk_28 (dk_at dksX7_does_1 17 rfl rfl)
theorem dX7_does_42 : decode cX7_does 42 = .ok (.invokevirtual 23, 3) := dk_182 0 23 (dk_at dksX7_does_1 18 rfl rfl)
theorem dX7_does_45 : decode cX7_does 45 = .ok (.if_icmp .lt 13, 3) := dk_161 0 13 (dk_at dksX7_does_1 21 rfl rfl)
theorem dX7_does_48 : decode cX7_does 48 = .ok (.aload_n 0, 1) := dk_42 (dk_at dksX7_does_2 0 rfl rfl)
theorem dX7_does_49 : decode cX7_does 49 = .ok (.getfield 3, 3) := dk_180 0 3 (dk_at dksX7_does_2 1 rfl rfl)
theorem dX7_does_52 : decode cX7_does 52 = .ok (.getfield 27, 3) := dk_180 0 27 (dk_at dksX7_does_2 4 rfl rfl)
theorem dX7_does_55 : decode cX7_does 55 = .ok (.iload_n 2, 1) := dk_28 (dk_at dksX7_does_2 7 rfl rfl)
theorem dX7_does_56 : decode cX7_does 56 = .ok (.iconst (-1), 1) := dk_2 (dk_at dksX7_does_2 8 rfl rfl)
theorem dX7_does_57 : decode cX7_does 57 = .ok (.iastore, 1) := dk_79 (dk_at dksX7_does_2 9 rfl rfl)
theorem dX7_does_58 : decode cX7_does 58 = .ok (.aload_n 0, 1) := dk_42 (dk_at dksX7_does_2 10 rfl rfl)
theorem dX7_does_59 : decode cX7_does 59 = .ok (.getfield 3, 3) := dk_180 0 3 (dk_at dksX7_does_2 11 rfl rfl)
theorem dX7_does_62 : decode cX7_does 62 = .ok (.dup, 1) := dk_89 (dk_at dksX7_does_2 14 rfl rfl)
theorem dX7_does_63 : decode cX7_does 63 = .ok (.getfield 30, 3) := dk_180 0 30 (dk_at dksX7_does_2 15 rfl rfl)
theorem dX7_does_66 : decode cX7_does 66 = .ok (.iconst 1, 1) := dk_4 (dk_at dksX7_does_2 18 rfl rfl)
theorem dX7_does_67 : decode cX7_does 67 = .ok (.iadd, 1) := dk_96 (dk_at dksX7_does_2 19 rfl rfl)
theorem dX7_does_68 : decode cX7_does 68 = .ok (.putfield 30, 3) := dk_181 0 30 (dk_at dksX7_does_2 20 rfl rfl)
theorem dX7_does_71 : decode cX7_does 71 = .ok (.return_, 1) := dk_177 (dk_at dksX7_does_2 23 rfl rfl)
theorem q156 : (Jvm.Cond.initialized "CardHolder$Ask") ∈ lw_all := lw_g (lw_at lw_m1 21 rfl) rfl
theorem q289 : (Jvm.Cond.fieldLinkNest "CardHolder$Ask" (15 : Nat) "CardHolder" "askedToday" "I" "CardHolder") ∈ lw_tbl := lw_at lw_m1 154 rfl
theorem q296 : (Jvm.Cond.fieldLinkNest "CardHolder$Ask" (30 : Nat) "CardHolder" "deedsDone" "I" "CardHolder") ∈ lw_tbl := lw_at lw_m1 161 rfl
theorem q302 : (Jvm.Cond.fieldLinkNest "CardHolder$Ask" (27 : Nat) "CardHolder" "holder" "[I" "CardHolder") ∈ lw_tbl := lw_at lw_m1 167 rfl
theorem q304 : (Jvm.Cond.fieldLinkNest "CardHolder$Ask" (19 : Nat) "CardHolder" "worn" "[I" "CardHolder") ∈ lw_tbl := lw_at lw_m1 169 rfl
theorem q667 : (Jvm.Cond.instantiable "CardHolder$Ask" (1 : Nat)) ∈ lw_all := lw_g (lw_at lw_m3 52 rfl) rfl
theorem q669 : (Jvm.Cond.instanceMethod ({ cls := "CardHolder$Ask", name := "<init>", desc := "(LCardHolder;)V" } : Jvm.MethodName)) ∈ lw_all := lw_g (lw_at lw_m3 54 rfl) rfl
theorem q670 : (Jvm.Cond.code ({ cls := "CardHolder$Ask", name := "<init>", desc := "(LCardHolder;)V" } : Jvm.MethodName) prog_3_method_1_code (2 : Nat) (Option.none : Option Jvm.ClassFile.FieldType)) ∈ lw_all := lw_g (lw_at lw_m3 55 rfl) rfl
theorem q671 : (Jvm.Cond.methodLinkNest "CardHolder$Ask" (9 : Nat) ({ cls := "CardHolder$Act", name := "<init>", desc := "()V" } : Jvm.MethodName) "CardHolder") ∈ lw_tbl := lw_at lw_m3 56 rfl
theorem q675 : (Jvm.Cond.fieldLink "CardHolder$Ask" (3 : Nat) "CardHolder$Ask" "this$0" "LCardHolder;") ∈ lw_all := lw_g (lw_at lw_m3 60 rfl) rfl
theorem q676 : (Jvm.Cond.laysFinal "CardHolder$Ask" "CardHolder$Ask" "this$0" "LCardHolder;") ∈ lw_all := lw_g (lw_at lw_m3 61 rfl) rfl
theorem q677 : (Jvm.Cond.soleField "CardHolder$Ask" "this$0") ∈ lw_all := lw_g (lw_at lw_m3 62 rfl) rfl
theorem q678 : (Jvm.Cond.superclass "CardHolder$Ask" "CardHolder$Act") ∈ lw_all := lw_g (lw_at lw_m3 63 rfl) rfl
theorem q712 : (Jvm.Cond.selects "CardHolder$Ask" ({ cls := "java/lang/Object", name := "getClass", desc := "()Ljava/lang/Class;" } : Jvm.MethodName) ({ cls := "java/lang/Object", name := "getClass", desc := "()Ljava/lang/Class;" } : Jvm.MethodName)) ∈ lw_all := lw_g (lw_at lw_m3 97 rfl) rfl
theorem q796 : (Jvm.Cond.selects "CardHolder$Ask" ({ cls := "CardHolder$Act", name := "does", desc := "(IIII)V" } : Jvm.MethodName) ({ cls := "CardHolder$Ask", name := "does", desc := "(IIII)V" } : Jvm.MethodName)) ∈ lw_all := lw_g (lw_at lw_m3 181 rfl) rfl
theorem q797 : (Jvm.Cond.instanceMethod ({ cls := "CardHolder$Ask", name := "does", desc := "(IIII)V" } : Jvm.MethodName)) ∈ lw_all := lw_g (lw_at lw_m3 182 rfl) rfl
theorem q798 : (Jvm.Cond.code ({ cls := "CardHolder$Ask", name := "does", desc := "(IIII)V" } : Jvm.MethodName) prog_3_method_2_code (5 : Nat) (Option.none : Option Jvm.ClassFile.FieldType)) ∈ lw_all := lw_g (lw_at lw_m3 183 rfl) rfl
theorem q799 : (Jvm.Cond.methodLinkNest "CardHolder$Ask" (23 : Nat) ({ cls := "CardHolder", name := "limit", desc := "(I)I" } : Jvm.MethodName) "CardHolder") ∈ lw_tbl := lw_at lw_m3 184 rfl
theorem q2081 : (Jvm.Cond.sameMethod "CardHolder$Ask" "CardHolder$Ask" "does" "(IIII)V") ∈ lw_all := lw_g (lw_at lw_m9 26 rfl) rfl
theorem q2084 : (Jvm.Cond.castable "CardHolder$Ask" "CardHolder$Act") ∈ lw_tbl := lw_at lw_m9 29 rfl
theorem q2097 : (Jvm.Cond.castable "CardHolder$Ask" "java/lang/Object") ∈ lw_tbl := lw_at lw_m9 42 rfl
theorem in_X7 : ∀ w ∈ wsX70, w ∈ lw_all := lw_in wsX70 [676] (by decide +kernel) (by decide +kernel)

/-! CardHolder$Give -/
set_option maxRecDepth 100000
def RX8 : String := "CardHolder$Give"
def TX8 : u_T := fun k => match k with
  | 0 => ("CardHolder$Ask", "this$0", "LCardHolder;", true)
  | _ => ("CardHolder$Give", "this$0", "LCardHolder;", true)
def tyX8 : Nat → FieldType := fun k => match k with
  | 0 => .object "CardHolder"
  | _ => .object "CardHolder"
abbrev wsX80 : List Cond := u_ws RX8 TX8 2
-- two fields of one name: no nmX8
theorem tyX8_ok : ∀ k, k < 2 → parseFieldDescriptor (TX8 k).2.2.1 = some (tyX8 k) := by decide +kernel
abbrev cX8_init : ByteArray := prog_7_method_1_code
def yX8_init : MethodName := ⟨RX8, "<init>", "(LCardHolder;)V"⟩
def dkwX8_init_0 : List UInt8 := [42, 43, 181, 0, 1, 42, 43, 183, 0, 7, 177]
abbrev dktX8_init_0 : List UInt8 := dkwX8_init_0 ++ []
theorem dksX8_init_0 : cX8_init.data.toList.drop 0 = dktX8_init_0 := by decide +kernel
theorem dX8_init_0 : decode cX8_init 0 = .ok (.aload_n 0, 1) := dk_42 (dk_at dksX8_init_0 0 rfl rfl)
theorem dX8_init_1 : decode cX8_init 1 = .ok (.aload_n 1, 1) := dk_43 (dk_at dksX8_init_0 1 rfl rfl)
theorem dX8_init_2 : decode cX8_init 2 = .ok (.putfield 1, 3) := dk_181 0 1 (dk_at dksX8_init_0 2 rfl rfl)
theorem dX8_init_5 : decode cX8_init 5 = .ok (.aload_n 0, 1) := dk_42 (dk_at dksX8_init_0 5 rfl rfl)
theorem dX8_init_6 : decode cX8_init 6 = .ok (.aload_n 1, 1) := dk_43 (dk_at dksX8_init_0 6 rfl rfl)
theorem dX8_init_7 : decode cX8_init 7 = .ok (.invokespecial 7, 3) := dk_183 0 7 (dk_at dksX8_init_0 7 rfl rfl)
theorem dX8_init_10 : decode cX8_init 10 = .ok (.return_, 1) := dk_177 (dk_at dksX8_init_0 10 rfl rfl)
abbrev cX8_does : ByteArray := prog_7_method_2_code
def yX8_does : MethodName := ⟨RX8, "does", "(IIII)V"⟩
def dkwX8_does_1 : List UInt8 := [89, 180, 0, 23, 4, 100, 181, 0, 23, 177]
abbrev dktX8_does_1 : List UInt8 := dkwX8_does_1 ++ []
def dkwX8_does_0 : List UInt8 := [42, 180, 0, 1, 180, 0, 13, 29, 21, 4, 79, 42, 27, 28, 29, 21, 4, 183, 0, 19, 42, 180, 0, 1]
abbrev dktX8_does_0 : List UInt8 := dkwX8_does_0 ++ dktX8_does_1
theorem dksX8_does_0 : cX8_does.data.toList.drop 0 = dktX8_does_0 := by decide +kernel
theorem dksX8_does_1 : cX8_does.data.toList.drop 24 = dktX8_does_1 := dk_seg dksX8_does_0 24 rfl rfl
theorem dX8_does_0 : decode cX8_does 0 = .ok (.aload_n 0, 1) := dk_42 (dk_at dksX8_does_0 0 rfl rfl)
theorem dX8_does_1 : decode cX8_does 1 = .ok (.getfield 1, 3) := dk_180 0 1 (dk_at dksX8_does_0 1 rfl rfl)
theorem dX8_does_4 : decode cX8_does 4 = .ok (.getfield 13, 3) := dk_180 0 13 (dk_at dksX8_does_0 4 rfl rfl)
theorem dX8_does_7 : decode cX8_does 7 = .ok (.iload_n 3, 1) := dk_29 (dk_at dksX8_does_0 7 rfl rfl)
theorem dX8_does_8 : decode cX8_does 8 = .ok (.iload 4, 2) := dk_21 4 (dk_at dksX8_does_0 8 rfl rfl)
theorem dX8_does_10 : decode cX8_does 10 = .ok (.iastore, 1) := dk_79 (dk_at dksX8_does_0 10 rfl rfl)
theorem dX8_does_11 : decode cX8_does 11 = .ok (.aload_n 0, 1) := dk_42 (dk_at dksX8_does_0 11 rfl rfl)
theorem dX8_does_12 : decode cX8_does 12 = .ok (.iload_n 1, 1) := dk_27 (dk_at dksX8_does_0 12 rfl rfl)
theorem dX8_does_13 : decode cX8_does 13 = .ok (.iload_n 2, 1) := dk_28 (dk_at dksX8_does_0 13 rfl rfl)
theorem dX8_does_14 : decode cX8_does 14 = .ok (.iload_n 3, 1) := dk_29 (dk_at dksX8_does_0 14 rfl rfl)
theorem dX8_does_15 : decode cX8_does 15 = .ok (.iload 4, 2) := dk_21 4 (dk_at dksX8_does_0 15 rfl rfl)
theorem dX8_does_17 : decode cX8_does 17 = .ok (.invokespecial 19, 3) := dk_183 0 19 (dk_at dksX8_does_0 17 rfl rfl)
theorem dX8_does_20 : decode cX8_does 20 = .ok (.aload_n 0, 1) := dk_42 (dk_at dksX8_does_0 20 rfl rfl)
theorem dX8_does_21 : decode cX8_does 21 = .ok (.getfield 1, 3) := dk_180 0 1 (dk_at dksX8_does_0 21 rfl rfl)
theorem dX8_does_24 : decode cX8_does 24 = .ok (.dup, 1) := dk_89 (dk_at dksX8_does_1 0 rfl rfl)
theorem dX8_does_25 : decode cX8_does 25 = .ok (.getfield 23, 3) := dk_180 0 23 (dk_at dksX8_does_1 1 rfl rfl)
theorem dX8_does_28 : decode cX8_does 28 = .ok (.iconst 1, 1) := dk_4 (dk_at dksX8_does_1 4 rfl rfl)
theorem dX8_does_29 : decode cX8_does 29 = .ok (.isub, 1) := dk_100 (dk_at dksX8_does_1 5 rfl rfl)
theorem dX8_does_30 : decode cX8_does 30 = .ok (.putfield 23, 3) := dk_181 0 23 (dk_at dksX8_does_1 6 rfl rfl)
theorem dX8_does_33 : decode cX8_does 33 = .ok (.return_, 1) := dk_177 (dk_at dksX8_does_1 9 rfl rfl)
theorem q159 : (Jvm.Cond.initialized "CardHolder$Give") ∈ lw_all := lw_g (lw_at lw_m1 24 rfl) rfl
theorem q295 : (Jvm.Cond.fieldLinkNest "CardHolder$Give" (23 : Nat) "CardHolder" "deedsDone" "I" "CardHolder") ∈ lw_tbl := lw_at lw_m1 160 rfl
theorem q298 : (Jvm.Cond.fieldLinkNest "CardHolder$Give" (13 : Nat) "CardHolder" "holder" "[I" "CardHolder") ∈ lw_tbl := lw_at lw_m1 163 rfl
theorem q716 : (Jvm.Cond.selects "CardHolder$Give" ({ cls := "java/lang/Object", name := "getClass", desc := "()Ljava/lang/Class;" } : Jvm.MethodName) ({ cls := "java/lang/Object", name := "getClass", desc := "()Ljava/lang/Class;" } : Jvm.MethodName)) ∈ lw_all := lw_g (lw_at lw_m3 101 rfl) rfl
theorem q740 : (Jvm.Cond.instantiable "CardHolder$Give" (2 : Nat)) ∈ lw_all := lw_g (lw_at lw_m3 125 rfl) rfl
theorem q742 : (Jvm.Cond.instanceMethod ({ cls := "CardHolder$Give", name := "<init>", desc := "(LCardHolder;)V" } : Jvm.MethodName)) ∈ lw_all := lw_g (lw_at lw_m3 127 rfl) rfl
theorem q743 : (Jvm.Cond.code ({ cls := "CardHolder$Give", name := "<init>", desc := "(LCardHolder;)V" } : Jvm.MethodName) prog_7_method_1_code (2 : Nat) (Option.none : Option Jvm.ClassFile.FieldType)) ∈ lw_all := lw_g (lw_at lw_m3 128 rfl) rfl
theorem q744 : (Jvm.Cond.methodLinkNest "CardHolder$Give" (7 : Nat) ({ cls := "CardHolder$Ask", name := "<init>", desc := "(LCardHolder;)V" } : Jvm.MethodName) "CardHolder") ∈ lw_tbl := lw_at lw_m3 129 rfl
theorem q745 : (Jvm.Cond.fieldLink "CardHolder$Give" (1 : Nat) "CardHolder$Give" "this$0" "LCardHolder;") ∈ lw_all := lw_g (lw_at lw_m3 130 rfl) rfl
theorem q746 : (Jvm.Cond.laysFinal "CardHolder$Give" "CardHolder$Give" "this$0" "LCardHolder;") ∈ lw_all := lw_g (lw_at lw_m3 131 rfl) rfl
theorem q747 : (Jvm.Cond.soleField "CardHolder$Give" "this$0") ∈ lw_all := lw_g (lw_at lw_m3 132 rfl) rfl
theorem q748 : (Jvm.Cond.laysFinal "CardHolder$Give" "CardHolder$Ask" "this$0" "LCardHolder;") ∈ lw_all := lw_g (lw_at lw_m3 133 rfl) rfl
theorem q749 : (Jvm.Cond.superclass "CardHolder$Give" "CardHolder$Ask") ∈ lw_all := lw_g (lw_at lw_m3 134 rfl) rfl
theorem q808 : (Jvm.Cond.selects "CardHolder$Give" ({ cls := "CardHolder$Act", name := "does", desc := "(IIII)V" } : Jvm.MethodName) ({ cls := "CardHolder$Give", name := "does", desc := "(IIII)V" } : Jvm.MethodName)) ∈ lw_all := lw_g (lw_at lw_m3 193 rfl) rfl
theorem q809 : (Jvm.Cond.instanceMethod ({ cls := "CardHolder$Give", name := "does", desc := "(IIII)V" } : Jvm.MethodName)) ∈ lw_all := lw_g (lw_at lw_m3 194 rfl) rfl
theorem q810 : (Jvm.Cond.code ({ cls := "CardHolder$Give", name := "does", desc := "(IIII)V" } : Jvm.MethodName) prog_7_method_2_code (5 : Nat) (Option.none : Option Jvm.ClassFile.FieldType)) ∈ lw_all := lw_g (lw_at lw_m3 195 rfl) rfl
theorem q811 : (Jvm.Cond.methodLink "CardHolder$Give" (19 : Nat) ({ cls := "CardHolder$Ask", name := "does", desc := "(IIII)V" } : Jvm.MethodName)) ∈ lw_all := lw_g (lw_at lw_m3 196 rfl) rfl
theorem q2086 : (Jvm.Cond.castable "CardHolder$Give" "CardHolder$Act") ∈ lw_tbl := lw_at lw_m9 31 rfl
theorem q2098 : (Jvm.Cond.castable "CardHolder$Give" "java/lang/Object") ∈ lw_tbl := lw_at lw_m9 43 rfl
theorem in_X8 : ∀ w ∈ wsX80, w ∈ lw_all := lw_in wsX80 [748, 746] (by decide +kernel) (by decide +kernel)

/-! CardHolder$Swap -/
set_option maxRecDepth 100000
def RX9 : String := "CardHolder$Swap"
def TX9 : u_T := fun k => match k with
  | _ => ("CardHolder$Swap", "this$0", "LCardHolder;", true)
def tyX9 : Nat → FieldType := fun k => match k with
  | _ => .object "CardHolder"
abbrev wsX90 : List Cond := u_ws RX9 TX9 1
theorem nmX9 : ∀ a, a < 1 → ∀ b, b < 1 → a ≠ b → (TX9 a).2.1 ≠ (TX9 b).2.1 := by decide +kernel
theorem tyX9_ok : ∀ k, k < 1 → parseFieldDescriptor (TX9 k).2.2.1 = some (tyX9 k) := by decide +kernel
abbrev cX9_init : ByteArray := prog_11_method_1_code
def yX9_init : MethodName := ⟨RX9, "<init>", "(LCardHolder;)V"⟩
def dkwX9_init_0 : List UInt8 := [42, 43, 181, 0, 1, 42, 183, 0, 7, 177]
abbrev dktX9_init_0 : List UInt8 := dkwX9_init_0 ++ []
theorem dksX9_init_0 : cX9_init.data.toList.drop 0 = dktX9_init_0 := by decide +kernel
theorem dX9_init_0 : decode cX9_init 0 = .ok (.aload_n 0, 1) := dk_42 (dk_at dksX9_init_0 0 rfl rfl)
theorem dX9_init_1 : decode cX9_init 1 = .ok (.aload_n 1, 1) := dk_43 (dk_at dksX9_init_0 1 rfl rfl)
theorem dX9_init_2 : decode cX9_init 2 = .ok (.putfield 1, 3) := dk_181 0 1 (dk_at dksX9_init_0 2 rfl rfl)
theorem dX9_init_5 : decode cX9_init 5 = .ok (.aload_n 0, 1) := dk_42 (dk_at dksX9_init_0 5 rfl rfl)
theorem dX9_init_6 : decode cX9_init 6 = .ok (.invokespecial 7, 3) := dk_183 0 7 (dk_at dksX9_init_0 6 rfl rfl)
theorem dX9_init_9 : decode cX9_init 9 = .ok (.return_, 1) := dk_177 (dk_at dksX9_init_0 9 rfl rfl)
abbrev cX9_does : ByteArray := prog_11_method_2_code
def yX9_does : MethodName := ⟨RX9, "does", "(IIII)V"⟩
def dkwX9_does_1 : List UInt8 := [180, 0, 13, 28, 46, 79, 42, 180, 0, 1, 180, 0, 13, 28, 21, 5, 79, 177]
abbrev dktX9_does_1 : List UInt8 := dkwX9_does_1 ++ []
def dkwX9_does_0 : List UInt8 := [42, 180, 0, 1, 180, 0, 13, 27, 46, 54, 5, 42, 180, 0, 1, 180, 0, 13, 27, 42, 180, 0, 1]
abbrev dktX9_does_0 : List UInt8 := dkwX9_does_0 ++ dktX9_does_1
theorem dksX9_does_0 : cX9_does.data.toList.drop 0 = dktX9_does_0 := by decide +kernel
theorem dksX9_does_1 : cX9_does.data.toList.drop 23 = dktX9_does_1 := dk_seg dksX9_does_0 23 rfl rfl
theorem dX9_does_0 : decode cX9_does 0 = .ok (.aload_n 0, 1) := dk_42 (dk_at dksX9_does_0 0 rfl rfl)
theorem dX9_does_1 : decode cX9_does 1 = .ok (.getfield 1, 3) := dk_180 0 1 (dk_at dksX9_does_0 1 rfl rfl)
theorem dX9_does_4 : decode cX9_does 4 = .ok (.getfield 13, 3) := dk_180 0 13 (dk_at dksX9_does_0 4 rfl rfl)
theorem dX9_does_7 : decode cX9_does 7 = .ok (.iload_n 1, 1) := dk_27 (dk_at dksX9_does_0 7 rfl rfl)
theorem dX9_does_8 : decode cX9_does 8 = .ok (.iaload, 1) := dk_46 (dk_at dksX9_does_0 8 rfl rfl)
theorem dX9_does_9 : decode cX9_does 9 = .ok (.istore 5, 2) := dk_54 5 (dk_at dksX9_does_0 9 rfl rfl)
theorem dX9_does_11 : decode cX9_does 11 = .ok (.aload_n 0, 1) := dk_42 (dk_at dksX9_does_0 11 rfl rfl)
theorem dX9_does_12 : decode cX9_does 12 = .ok (.getfield 1, 3) := dk_180 0 1 (dk_at dksX9_does_0 12 rfl rfl)
theorem dX9_does_15 : decode cX9_does 15 = .ok (.getfield 13, 3) := dk_180 0 13 (dk_at dksX9_does_0 15 rfl rfl)
theorem dX9_does_18 : decode cX9_does 18 = .ok (.iload_n 1, 1) := dk_27 (dk_at dksX9_does_0 18 rfl rfl)
theorem dX9_does_19 : decode cX9_does 19 = .ok (.aload_n 0, 1) := dk_42 (dk_at dksX9_does_0 19 rfl rfl)
theorem dX9_does_20 : decode cX9_does 20 = .ok (.getfield 1, 3) := dk_180 0 1 (dk_at dksX9_does_0 20 rfl rfl)
theorem dX9_does_23 : decode cX9_does 23 = .ok (.getfield 13, 3) := dk_180 0 13 (dk_at dksX9_does_1 0 rfl rfl)
theorem dX9_does_26 : decode cX9_does 26 = .ok (.iload_n 2, 1) := dk_28 (dk_at dksX9_does_1 3 rfl rfl)
theorem dX9_does_27 : decode cX9_does 27 = .ok (.iaload, 1) := dk_46 (dk_at dksX9_does_1 4 rfl rfl)
theorem dX9_does_28 : decode cX9_does 28 = .ok (.iastore, 1) := dk_79 (dk_at dksX9_does_1 5 rfl rfl)
theorem dX9_does_29 : decode cX9_does 29 = .ok (.aload_n 0, 1) := dk_42 (dk_at dksX9_does_1 6 rfl rfl)
theorem dX9_does_30 : decode cX9_does 30 = .ok (.getfield 1, 3) := dk_180 0 1 (dk_at dksX9_does_1 7 rfl rfl)
theorem dX9_does_33 : decode cX9_does 33 = .ok (.getfield 13, 3) := dk_180 0 13 (dk_at dksX9_does_1 10 rfl rfl)
theorem dX9_does_36 : decode cX9_does 36 = .ok (.iload_n 2, 1) := dk_28 (dk_at dksX9_does_1 13 rfl rfl)
theorem dX9_does_37 : decode cX9_does 37 = .ok (.iload 5, 2) := dk_21 5 (dk_at dksX9_does_1 14 rfl rfl)
theorem dX9_does_39 : decode cX9_does 39 = .ok (.iastore, 1) := dk_79 (dk_at dksX9_does_1 16 rfl rfl)
theorem dX9_does_40 : decode cX9_does 40 = .ok (.return_, 1) := dk_177 (dk_at dksX9_does_1 17 rfl rfl)
theorem q160 : (Jvm.Cond.initialized "CardHolder$Swap") ∈ lw_all := lw_g (lw_at lw_m1 25 rfl) rfl
theorem q299 : (Jvm.Cond.fieldLinkNest "CardHolder$Swap" (13 : Nat) "CardHolder" "holder" "[I" "CardHolder") ∈ lw_tbl := lw_at lw_m1 164 rfl
theorem q720 : (Jvm.Cond.selects "CardHolder$Swap" ({ cls := "java/lang/Object", name := "getClass", desc := "()Ljava/lang/Class;" } : Jvm.MethodName) ({ cls := "java/lang/Object", name := "getClass", desc := "()Ljava/lang/Class;" } : Jvm.MethodName)) ∈ lw_all := lw_g (lw_at lw_m3 105 rfl) rfl
theorem q751 : (Jvm.Cond.instantiable "CardHolder$Swap" (1 : Nat)) ∈ lw_all := lw_g (lw_at lw_m3 136 rfl) rfl
theorem q753 : (Jvm.Cond.instanceMethod ({ cls := "CardHolder$Swap", name := "<init>", desc := "(LCardHolder;)V" } : Jvm.MethodName)) ∈ lw_all := lw_g (lw_at lw_m3 138 rfl) rfl
theorem q754 : (Jvm.Cond.code ({ cls := "CardHolder$Swap", name := "<init>", desc := "(LCardHolder;)V" } : Jvm.MethodName) prog_11_method_1_code (2 : Nat) (Option.none : Option Jvm.ClassFile.FieldType)) ∈ lw_all := lw_g (lw_at lw_m3 139 rfl) rfl
theorem q755 : (Jvm.Cond.methodLinkNest "CardHolder$Swap" (7 : Nat) ({ cls := "CardHolder$Act", name := "<init>", desc := "()V" } : Jvm.MethodName) "CardHolder") ∈ lw_tbl := lw_at lw_m3 140 rfl
theorem q756 : (Jvm.Cond.fieldLink "CardHolder$Swap" (1 : Nat) "CardHolder$Swap" "this$0" "LCardHolder;") ∈ lw_all := lw_g (lw_at lw_m3 141 rfl) rfl
theorem q757 : (Jvm.Cond.laysFinal "CardHolder$Swap" "CardHolder$Swap" "this$0" "LCardHolder;") ∈ lw_all := lw_g (lw_at lw_m3 142 rfl) rfl
theorem q758 : (Jvm.Cond.soleField "CardHolder$Swap" "this$0") ∈ lw_all := lw_g (lw_at lw_m3 143 rfl) rfl
theorem q759 : (Jvm.Cond.superclass "CardHolder$Swap" "CardHolder$Act") ∈ lw_all := lw_g (lw_at lw_m3 144 rfl) rfl
theorem q815 : (Jvm.Cond.selects "CardHolder$Swap" ({ cls := "CardHolder$Act", name := "does", desc := "(IIII)V" } : Jvm.MethodName) ({ cls := "CardHolder$Swap", name := "does", desc := "(IIII)V" } : Jvm.MethodName)) ∈ lw_all := lw_g (lw_at lw_m3 200 rfl) rfl
theorem q816 : (Jvm.Cond.instanceMethod ({ cls := "CardHolder$Swap", name := "does", desc := "(IIII)V" } : Jvm.MethodName)) ∈ lw_all := lw_g (lw_at lw_m3 201 rfl) rfl
theorem q817 : (Jvm.Cond.code ({ cls := "CardHolder$Swap", name := "does", desc := "(IIII)V" } : Jvm.MethodName) prog_11_method_2_code (6 : Nat) (Option.none : Option Jvm.ClassFile.FieldType)) ∈ lw_all := lw_g (lw_at lw_m3 202 rfl) rfl
theorem q2088 : (Jvm.Cond.castable "CardHolder$Swap" "CardHolder$Act") ∈ lw_tbl := lw_at lw_m9 33 rfl
theorem q2099 : (Jvm.Cond.castable "CardHolder$Swap" "java/lang/Object") ∈ lw_tbl := lw_at lw_m9 44 rfl
theorem in_X9 : ∀ w ∈ wsX90, w ∈ lw_all := lw_in wsX90 [757] (by decide +kernel) (by decide +kernel)

theorem q145 : (Jvm.Cond.initialized "CardHolder$Token") ∈ lw_all := lw_g (lw_at lw_m1 10 rfl) rfl
set_option maxRecDepth 100000
theorem q396 : (Jvm.Cond.laysStatic "CardHolder$Token" "END" "LCardHolder$Token;") ∈ lw_tbl := lw_at lw_m2 21 rfl
theorem q407 : (Jvm.Cond.laysStatic "CardHolder$Token" "WORD" "LCardHolder$Token;") ∈ lw_tbl := lw_at lw_m2 32 rfl
theorem q413 : (Jvm.Cond.laysStatic "CardHolder$Token" "NUMBER" "LCardHolder$Token;") ∈ lw_tbl := lw_at lw_m2 38 rfl
theorem q415 : (Jvm.Cond.laysStatic "CardHolder$Token" "STOP" "LCardHolder$Token;") ∈ lw_tbl := lw_at lw_m2 40 rfl
theorem q417 : (Jvm.Cond.laysStatic "CardHolder$Token" "NONE" "LCardHolder$Token;") ∈ lw_tbl := lw_at lw_m2 42 rfl
theorem q721 : (Jvm.Cond.selects "CardHolder$Token" ({ cls := "java/lang/Object", name := "getClass", desc := "()Ljava/lang/Class;" } : Jvm.MethodName) ({ cls := "java/lang/Object", name := "getClass", desc := "()Ljava/lang/Class;" } : Jvm.MethodName)) ∈ lw_all := lw_g (lw_at lw_m3 106 rfl) rfl
theorem q2095 : (Jvm.Cond.castable "CardHolder$Token" "java/lang/Object") ∈ lw_tbl := lw_at lw_m9 40 rfl

theorem q2112 : (Jvm.Cond.castable "[B" "java/lang/Object") ∈ lw_tbl := lw_at lw_m9 57 rfl
set_option maxRecDepth 100000

theorem q2111 : (Jvm.Cond.castable "[I" "java/lang/Object") ∈ lw_tbl := lw_at lw_m9 56 rfl
set_option maxRecDepth 100000

theorem q2116 : (Jvm.Cond.castable "[J" "java/lang/Object") ∈ lw_tbl := lw_at lw_m9 61 rfl
set_option maxRecDepth 100000

theorem q2113 : (Jvm.Cond.castable "[LCardHolder$Slot;" "java/lang/Object") ∈ lw_tbl := lw_at lw_m9 58 rfl
set_option maxRecDepth 100000

theorem q2108 : (Jvm.Cond.sameMethod "[Ljava/lang/Object;" "java/lang/Object" "getClass" "()Ljava/lang/Class;") ∈ lw_all := lw_g (lw_at lw_m9 53 rfl) rfl
set_option maxRecDepth 100000
theorem q2109 : (Jvm.Cond.selects "[Ljava/lang/Object;" ({ cls := "java/lang/Object", name := "getClass", desc := "()Ljava/lang/Class;" } : Jvm.MethodName) ({ cls := "java/lang/Object", name := "getClass", desc := "()Ljava/lang/Class;" } : Jvm.MethodName)) ∈ lw_all := lw_g (lw_at lw_m9 54 rfl) rfl
theorem q2114 : (Jvm.Cond.castable "[Ljava/lang/Object;" "java/lang/Object") ∈ lw_tbl := lw_at lw_m9 59 rfl

theorem q2115 : (Jvm.Cond.castable "[S" "java/lang/Object") ∈ lw_tbl := lw_at lw_m9 60 rfl
set_option maxRecDepth 100000

theorem q2117 : (Jvm.Cond.castable "[Z" "java/lang/Object") ∈ lw_tbl := lw_at lw_m9 62 rfl
set_option maxRecDepth 100000

theorem q144 : (Jvm.Cond.initialized "java/lang/Enum") ∈ lw_all := lw_g (lw_at lw_m1 9 rfl) rfl
set_option maxRecDepth 100000

theorem q154 : (Jvm.Cond.initialized "java/lang/System") ∈ lw_all := lw_g (lw_at lw_m1 19 rfl) rfl
set_option maxRecDepth 100000
theorem q652 : (Jvm.Cond.static ({ cls := "java/lang/System", name := "arraycopy", desc := "(Ljava/lang/Object;ILjava/lang/Object;II)V" } : Jvm.MethodName)) ∈ lw_all := lw_g (lw_at lw_m3 37 rfl) rfl
theorem q653 : (Jvm.Cond.native ({ cls := "java/lang/System", name := "arraycopy", desc := "(Ljava/lang/Object;ILjava/lang/Object;II)V" } : Jvm.MethodName)) ∈ lw_all := lw_g (lw_at lw_m3 38 rfl) rfl

theorem q239 : (Jvm.Cond.arrayClass Jvm.ClassFile.FieldType.int) ∈ lw_all := lw_g (lw_at lw_m1 104 rfl) rfl
set_option maxRecDepth 100000
theorem q266 : (Jvm.Cond.arrayClass Jvm.ClassFile.FieldType.byte) ∈ lw_all := lw_g (lw_at lw_m1 131 rfl) rfl
theorem q268 : (Jvm.Cond.arrayOver (Jvm.ClassFile.FieldType.object "CardHolder$Slot")) ∈ lw_tbl := lw_at lw_m1 133 rfl
theorem q733 : (Jvm.Cond.arrayOver (Jvm.ClassFile.FieldType.object "java/lang/Object")) ∈ lw_tbl := lw_at lw_m3 118 rfl
theorem q1340 : (Jvm.Cond.arrayClass Jvm.ClassFile.FieldType.short) ∈ lw_all := lw_g (lw_at lw_m6 5 rfl) rfl
theorem q1341 : (Jvm.Cond.arrayClass Jvm.ClassFile.FieldType.long) ∈ lw_all := lw_g (lw_at lw_m6 6 rfl) rfl
theorem q1488 : (Jvm.Cond.arrayClass Jvm.ClassFile.FieldType.boolean) ∈ lw_all := lw_g (lw_at lw_m6 153 rfl) rfl
