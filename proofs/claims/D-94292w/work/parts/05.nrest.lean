/-! java/util/AbstractCollection -/
set_option maxRecDepth 100000
def RJ0 : String := "java/util/AbstractCollection"
abbrev cJ0_init : ByteArray := prog_39_method_1_code
def yJ0_init : MethodName := ⟨RJ0, "<init>", "()V"⟩
theorem dJ0_init_0 : decode cJ0_init 0 = .ok (.aload_n 0, 1) := by decide +kernel
theorem dJ0_init_1 : decode cJ0_init 1 = .ok (.invokespecial 1, 3) := by decide +kernel
theorem dJ0_init_4 : decode cJ0_init 4 = .ok (.return_, 1) := by decide +kernel
theorem q142 : (Jvm.Cond.initialized "java/util/AbstractCollection") ∈ lw_all := lw_g (lw_at lw_m1 3 rfl) rfl
theorem q204 : (Jvm.Cond.instanceMethod ({ cls := "java/util/AbstractCollection", name := "<init>", desc := "()V" } : Jvm.MethodName)) ∈ lw_all := lw_g (lw_at lw_m1 65 rfl) rfl
theorem q205 : (Jvm.Cond.code ({ cls := "java/util/AbstractCollection", name := "<init>", desc := "()V" } : Jvm.MethodName) prog_39_method_1_code (1 : Nat) (Option.none : Option Jvm.ClassFile.FieldType)) ∈ lw_all := lw_g (lw_at lw_m1 66 rfl) rfl
theorem q206 : (Jvm.Cond.methodLink "java/util/AbstractCollection" (1 : Nat) ({ cls := "java/lang/Object", name := "<init>", desc := "()V" } : Jvm.MethodName)) ∈ lw_all := lw_g (lw_at lw_m1 67 rfl) rfl

/-! java/util/AbstractList -/
set_option maxRecDepth 100000
def RJ1 : String := "java/util/AbstractList"
abbrev cJ1_init : ByteArray := prog_40_method_1_code
def yJ1_init : MethodName := ⟨RJ1, "<init>", "()V"⟩
def dkwJ1_init_0 : List UInt8 := [42, 183, 0, 1, 42, 3, 181, 0, 7, 177]
abbrev dktJ1_init_0 : List UInt8 := dkwJ1_init_0 ++ []
theorem dksJ1_init_0 : cJ1_init.data.toList.drop 0 = dktJ1_init_0 := by decide +kernel
theorem dJ1_init_0 : decode cJ1_init 0 = .ok (.aload_n 0, 1) := dk_42 (dk_at dksJ1_init_0 0 rfl rfl)
theorem dJ1_init_1 : decode cJ1_init 1 = .ok (.invokespecial 1, 3) := dk_183 0 1 (dk_at dksJ1_init_0 1 rfl rfl)
theorem dJ1_init_4 : decode cJ1_init 4 = .ok (.aload_n 0, 1) := dk_42 (dk_at dksJ1_init_0 4 rfl rfl)
theorem dJ1_init_5 : decode cJ1_init 5 = .ok (.iconst 0, 1) := dk_3 (dk_at dksJ1_init_0 5 rfl rfl)
theorem dJ1_init_6 : decode cJ1_init 6 = .ok (.putfield 7, 3) := dk_181 0 7 (dk_at dksJ1_init_0 6 rfl rfl)
theorem dJ1_init_9 : decode cJ1_init 9 = .ok (.return_, 1) := dk_177 (dk_at dksJ1_init_0 9 rfl rfl)
theorem q143 : (Jvm.Cond.initialized "java/util/AbstractList") ∈ lw_all := lw_g (lw_at lw_m1 4 rfl) rfl
theorem q201 : (Jvm.Cond.instanceMethod ({ cls := "java/util/AbstractList", name := "<init>", desc := "()V" } : Jvm.MethodName)) ∈ lw_all := lw_g (lw_at lw_m1 62 rfl) rfl
theorem q202 : (Jvm.Cond.code ({ cls := "java/util/AbstractList", name := "<init>", desc := "()V" } : Jvm.MethodName) prog_40_method_1_code (1 : Nat) (Option.none : Option Jvm.ClassFile.FieldType)) ∈ lw_all := lw_g (lw_at lw_m1 63 rfl) rfl
theorem q203 : (Jvm.Cond.methodLink "java/util/AbstractList" (1 : Nat) ({ cls := "java/util/AbstractCollection", name := "<init>", desc := "()V" } : Jvm.MethodName)) ∈ lw_all := lw_g (lw_at lw_m1 64 rfl) rfl
theorem q213 : (Jvm.Cond.fieldLink "java/util/AbstractList" (7 : Nat) "java/util/AbstractList" "modCount" "I") ∈ lw_all := lw_g (lw_at lw_m1 74 rfl) rfl
theorem q221 : (Jvm.Cond.soleField "java/util/AbstractList" "modCount") ∈ lw_all := lw_g (lw_at lw_m1 82 rfl) rfl

/-! jdk/internal/util/ArraysSupport -/
set_option maxRecDepth 100000
def RJ10 : String := "jdk/internal/util/ArraysSupport"
abbrev cJ10_newLength : ByteArray := prog_48_method_27_code
def yJ10_newLength : MethodName := ⟨RJ10, "newLength", "(III)I"⟩
def dkwJ10_newLength_1 : List UInt8 := [184, 0, 201, 172]
abbrev dktJ10_newLength_1 : List UInt8 := dkwJ10_newLength_1 ++ []
def dkwJ10_newLength_0 : List UInt8 := [26, 27, 28, 184, 0, 194, 96, 62, 3, 29, 162, 0, 11, 29, 18, 200, 163, 0, 5, 29, 172, 26, 27]
abbrev dktJ10_newLength_0 : List UInt8 := dkwJ10_newLength_0 ++ dktJ10_newLength_1
theorem dksJ10_newLength_0 : cJ10_newLength.data.toList.drop 0 = dktJ10_newLength_0 := by decide +kernel
theorem dksJ10_newLength_1 : cJ10_newLength.data.toList.drop 23 = dktJ10_newLength_1 := dk_seg dksJ10_newLength_0 23 rfl rfl
theorem dJ10_newLength_0 : decode cJ10_newLength 0 = .ok (.iload_n 0, 1) := dk_26 (dk_at dksJ10_newLength_0 0 rfl rfl)
theorem dJ10_newLength_1 : decode cJ10_newLength 1 = .ok (.iload_n 1, 1) := dk_27 (dk_at dksJ10_newLength_0 1 rfl rfl)
theorem dJ10_newLength_2 : decode cJ10_newLength 2 = .ok (.iload_n 2, 1) := dk_28 (dk_at dksJ10_newLength_0 2 rfl rfl)
theorem dJ10_newLength_3 : decode cJ10_newLength 3 = .ok (.invokestatic 194, 3) := dk_184 0 194 (dk_at dksJ10_newLength_0 3 rfl rfl)
theorem dJ10_newLength_6 : decode cJ10_newLength 6 = .ok (.iadd, 1) := dk_96 (dk_at dksJ10_newLength_0 6 rfl rfl)
theorem dJ10_newLength_7 : decode cJ10_newLength 7 = .ok (.istore_n 3, 1) := dk_62 (dk_at dksJ10_newLength_0 7 rfl rfl)
theorem dJ10_newLength_8 : decode cJ10_newLength 8 = .ok (.iconst 0, 1) := dk_3 (dk_at dksJ10_newLength_0 8 rfl rfl)
theorem dJ10_newLength_9 : decode cJ10_newLength 9 = .ok (.iload_n 3, 1) := dk_29 (dk_at dksJ10_newLength_0 9 rfl rfl)
theorem dJ10_newLength_10 : decode cJ10_newLength 10 = .ok (.if_icmp .ge 11, 3) := dk_162 0 11 (dk_at dksJ10_newLength_0 10 rfl rfl)
theorem dJ10_newLength_13 : decode cJ10_newLength 13 = .ok (.iload_n 3, 1) := dk_29 (dk_at dksJ10_newLength_0 13 rfl rfl)
theorem dJ10_newLength_14 : decode cJ10_newLength 14 = .ok (.ldc 200, 2) := dk_18 200 (dk_at dksJ10_newLength_0 14 rfl rfl)
theorem dJ10_newLength_16 : decode cJ10_newLength 16 = .ok (.if_icmp .gt 5, 3) := dk_163 0 5 (dk_at dksJ10_newLength_0 16 rfl rfl)
theorem dJ10_newLength_19 : decode cJ10_newLength 19 = .ok (.iload_n 3, 1) := dk_29 (dk_at dksJ10_newLength_0 19 rfl rfl)
theorem dJ10_newLength_20 : decode cJ10_newLength 20 = .ok (.ireturn, 1) := dk_172 (dk_at dksJ10_newLength_0 20 rfl rfl)
theorem dJ10_newLength_21 : decode cJ10_newLength 21 = .ok (.iload_n 0, 1) := dk_26 (dk_at dksJ10_newLength_0 21 rfl rfl)
theorem dJ10_newLength_22 : decode cJ10_newLength 22 = .ok (.iload_n 1, 1) := dk_27 (dk_at dksJ10_newLength_0 22 rfl rfl)
theorem dJ10_newLength_23 : decode cJ10_newLength 23 = .ok (.invokestatic 201, 3) := dk_184 0 201 (dk_at dksJ10_newLength_1 0 rfl rfl)
theorem dJ10_newLength_26 : decode cJ10_newLength 26 = .ok (.ireturn, 1) := dk_172 (dk_at dksJ10_newLength_1 3 rfl rfl)
abbrev cJ10_hugeLength : ByteArray := prog_48_method_28_code
def yJ10_hugeLength : MethodName := ⟨RJ10, "hugeLength", "(II)I"⟩
def dkwJ10_hugeLength_2 : List UInt8 := [191, 28, 18, 200, 163, 0, 6, 18, 200, 172, 28, 172]
abbrev dktJ10_hugeLength_2 : List UInt8 := dkwJ10_hugeLength_2 ++ []
def dkwJ10_hugeLength_1 : List UInt8 := [26, 182, 0, 98, 18, 208, 182, 0, 94, 27, 182, 0, 98, 18, 210, 182, 0, 94, 182, 0, 101, 183, 0, 212]
abbrev dktJ10_hugeLength_1 : List UInt8 := dkwJ10_hugeLength_1 ++ dktJ10_hugeLength_2
def dkwJ10_hugeLength_0 : List UInt8 := [26, 27, 96, 61, 28, 156, 0, 44, 187, 0, 204, 89, 187, 0, 89, 89, 183, 0, 91, 18, 206, 182, 0, 94]
abbrev dktJ10_hugeLength_0 : List UInt8 := dkwJ10_hugeLength_0 ++ dktJ10_hugeLength_1
theorem dksJ10_hugeLength_0 : cJ10_hugeLength.data.toList.drop 0 = dktJ10_hugeLength_0 := by decide +kernel
theorem dksJ10_hugeLength_1 : cJ10_hugeLength.data.toList.drop 24 = dktJ10_hugeLength_1 := dk_seg dksJ10_hugeLength_0 24 rfl rfl
theorem dksJ10_hugeLength_2 : cJ10_hugeLength.data.toList.drop 48 = dktJ10_hugeLength_2 := dk_seg dksJ10_hugeLength_1 24 rfl rfl
theorem dJ10_hugeLength_0 : decode cJ10_hugeLength 0 = .ok (.iload_n 0, 1) := dk_26 (dk_at dksJ10_hugeLength_0 0 rfl rfl)
theorem dJ10_hugeLength_1 : decode cJ10_hugeLength 1 = .ok (.iload_n 1, 1) := dk_27 (dk_at dksJ10_hugeLength_0 1 rfl rfl)
theorem dJ10_hugeLength_2 : decode cJ10_hugeLength 2 = .ok (.iadd, 1) := dk_96 (dk_at dksJ10_hugeLength_0 2 rfl rfl)
theorem dJ10_hugeLength_3 : decode cJ10_hugeLength 3 = .ok (.istore_n 2, 1) := dk_61 (dk_at dksJ10_hugeLength_0 3 rfl rfl)
theorem dJ10_hugeLength_4 : decode cJ10_hugeLength 4 = .ok (.iload_n 2, 1) := dk_28 (dk_at dksJ10_hugeLength_0 4 rfl rfl)
theorem dJ10_hugeLength_5 : decode cJ10_hugeLength 5 = .ok (.ifCond .ge 44, 3) := dk_156 0 44 (dk_at dksJ10_hugeLength_0 5 rfl rfl)
theorem dJ10_hugeLength_8 : decode cJ10_hugeLength 8 = .ok (.new 204, 3) := dk_187 0 204 (dk_at dksJ10_hugeLength_0 8 rfl rfl)
theorem dJ10_hugeLength_11 : decode cJ10_hugeLength 11 = .ok (.dup, 1) := dk_89 (dk_at dksJ10_hugeLength_0 11 rfl rfl)
theorem dJ10_hugeLength_12 : decode cJ10_hugeLength 12 = .ok (.new 89, 3) := dk_187 0 89 (dk_at dksJ10_hugeLength_0 12 rfl rfl)
theorem dJ10_hugeLength_15 : decode cJ10_hugeLength 15 = .ok (.dup, 1) := dk_89 (dk_at dksJ10_hugeLength_0 15 rfl rfl)
theorem dJ10_hugeLength_16 : decode cJ10_hugeLength 16 = .ok (.invokespecial 91, 3) := dk_183 0 91 (dk_at dksJ10_hugeLength_0 16 rfl rfl)
theorem dJ10_hugeLength_19 : decode cJ10_hugeLength 19 = .ok (.ldc 206, 2) := dk_18 206 (dk_at dksJ10_hugeLength_0 19 rfl rfl)
theorem dJ10_hugeLength_21 : decode cJ10_hugeLength 21 = .ok (.invokevirtual 94, 3) := dk_182 0 94 (dk_at dksJ10_hugeLength_0 21 rfl rfl)
theorem dJ10_hugeLength_24 : decode cJ10_hugeLength 24 = .ok (.iload_n 0, 1) := dk_26 (dk_at dksJ10_hugeLength_1 0 rfl rfl)
theorem dJ10_hugeLength_25 : decode cJ10_hugeLength 25 = .ok (.invokevirtual 98, 3) := dk_182 0 98 (dk_at dksJ10_hugeLength_1 1 rfl rfl)
theorem dJ10_hugeLength_28 : decode cJ10_hugeLength 28 = .ok (.ldc 208, 2) := dk_18 208 (dk_at dksJ10_hugeLength_1 4 rfl rfl)
theorem dJ10_hugeLength_30 : decode cJ10_hugeLength 30 = .ok (.invokevirtual 94, 3) := dk_182 0 94 (dk_at dksJ10_hugeLength_1 6 rfl rfl)
theorem dJ10_hugeLength_33 : decode cJ10_hugeLength 33 = .ok (.iload_n 1, 1) := dk_27 (dk_at dksJ10_hugeLength_1 9 rfl rfl)
theorem dJ10_hugeLength_34 : decode cJ10_hugeLength 34 = .ok (.invokevirtual 98, 3) := dk_182 0 98 (dk_at dksJ10_hugeLength_1 10 rfl rfl)
theorem dJ10_hugeLength_37 : decode cJ10_hugeLength 37 = .ok (.ldc 210, 2) := dk_18 210 (dk_at dksJ10_hugeLength_1 13 rfl rfl)
theorem dJ10_hugeLength_39 : decode cJ10_hugeLength 39 = .ok (.invokevirtual 94, 3) := dk_182 0 94 (dk_at dksJ10_hugeLength_1 15 rfl rfl)
theorem dJ10_hugeLength_42 : decode cJ10_hugeLength 42 = .ok (.invokevirtual 101, 3) := dk_182 0 101 (dk_at dksJ10_hugeLength_1 18 rfl rfl)
theorem dJ10_hugeLength_45 : decode cJ10_hugeLength 45 = .ok (.invokespecial 212, 3) := dk_183 0 212 (dk_at dksJ10_hugeLength_1 21 rfl rfl)
theorem dJ10_hugeLength_48 : decode cJ10_hugeLength 48 = .ok (.athrow, 1) := dk_191 (dk_at dksJ10_hugeLength_2 0 rfl rfl)
theorem dJ10_hugeLength_49 : decode cJ10_hugeLength 49 = .ok (.iload_n 2, 1) := dk_28 (dk_at dksJ10_hugeLength_2 1 rfl rfl)
theorem dJ10_hugeLength_50 : decode cJ10_hugeLength 50 = .ok (.ldc 200, 2) := dk_18 200 (dk_at dksJ10_hugeLength_2 2 rfl rfl)
theorem dJ10_hugeLength_52 : decode cJ10_hugeLength 52 = .ok (.if_icmp .gt 6, 3) := dk_163 0 6 (dk_at dksJ10_hugeLength_2 4 rfl rfl)
theorem dJ10_hugeLength_55 : decode cJ10_hugeLength 55 = .ok (.ldc 200, 2) := dk_18 200 (dk_at dksJ10_hugeLength_2 7 rfl rfl)
theorem dJ10_hugeLength_57 : decode cJ10_hugeLength 57 = .ok (.ireturn, 1) := dk_172 (dk_at dksJ10_hugeLength_2 9 rfl rfl)
theorem dJ10_hugeLength_58 : decode cJ10_hugeLength 58 = .ok (.iload_n 2, 1) := dk_28 (dk_at dksJ10_hugeLength_2 10 rfl rfl)
theorem dJ10_hugeLength_59 : decode cJ10_hugeLength 59 = .ok (.ireturn, 1) := dk_172 (dk_at dksJ10_hugeLength_2 11 rfl rfl)
theorem q162 : (Jvm.Cond.initialized "jdk/internal/util/ArraysSupport") ∈ lw_all := lw_g (lw_at lw_m1 23 rfl) rfl
theorem q750 : (Jvm.Cond.static ({ cls := "jdk/internal/util/ArraysSupport", name := "newLength", desc := "(III)I" } : Jvm.MethodName)) ∈ lw_all := lw_g (lw_at lw_m3 131 rfl) rfl
theorem q751 : (Jvm.Cond.code ({ cls := "jdk/internal/util/ArraysSupport", name := "newLength", desc := "(III)I" } : Jvm.MethodName) prog_48_method_27_code (4 : Nat) (Option.some Jvm.ClassFile.FieldType.int)) ∈ lw_all := lw_g (lw_at lw_m3 132 rfl) rfl
theorem q752 : (Jvm.Cond.methodLink "jdk/internal/util/ArraysSupport" (194 : Nat) ({ cls := "java/lang/Math", name := "max", desc := "(II)I" } : Jvm.MethodName)) ∈ lw_all := lw_g (lw_at lw_m3 133 rfl) rfl
theorem q755 : (Jvm.Cond.constant "jdk/internal/util/ArraysSupport" (200 : Nat) (2147483639 : Int32)) ∈ lw_all := lw_g (lw_at lw_m3 136 rfl) rfl
theorem q756 : (Jvm.Cond.methodLink "jdk/internal/util/ArraysSupport" (201 : Nat) ({ cls := "jdk/internal/util/ArraysSupport", name := "hugeLength", desc := "(II)I" } : Jvm.MethodName)) ∈ lw_all := lw_g (lw_at lw_m3 137 rfl) rfl
theorem q757 : (Jvm.Cond.static ({ cls := "jdk/internal/util/ArraysSupport", name := "hugeLength", desc := "(II)I" } : Jvm.MethodName)) ∈ lw_all := lw_g (lw_at lw_m3 138 rfl) rfl
theorem q758 : (Jvm.Cond.code ({ cls := "jdk/internal/util/ArraysSupport", name := "hugeLength", desc := "(II)I" } : Jvm.MethodName) prog_48_method_28_code (3 : Nat) (Option.some Jvm.ClassFile.FieldType.int)) ∈ lw_all := lw_g (lw_at lw_m3 139 rfl) rfl

/-! java/util/Arrays -/
set_option maxRecDepth 100000
def RJ11 : String := "java/util/Arrays"
abbrev cJ11_copyOf : ByteArray := prog_42_method_119_code
def yJ11_copyOf : MethodName := ⟨RJ11, "copyOf", "([Ljava/lang/Object;I)[Ljava/lang/Object;"⟩
def dkwJ11_copyOf_0 : List UInt8 := [42, 27, 42, 182, 0, 86, 184, 1, 44, 176]
abbrev dktJ11_copyOf_0 : List UInt8 := dkwJ11_copyOf_0 ++ []
theorem dksJ11_copyOf_0 : cJ11_copyOf.data.toList.drop 0 = dktJ11_copyOf_0 := by decide +kernel
theorem dJ11_copyOf_0 : decode cJ11_copyOf 0 = .ok (.aload_n 0, 1) := dk_42 (dk_at dksJ11_copyOf_0 0 rfl rfl)
theorem dJ11_copyOf_1 : decode cJ11_copyOf 1 = .ok (.iload_n 1, 1) := dk_27 (dk_at dksJ11_copyOf_0 1 rfl rfl)
theorem dJ11_copyOf_2 : decode cJ11_copyOf 2 = .ok (.aload_n 0, 1) := dk_42 (dk_at dksJ11_copyOf_0 2 rfl rfl)
theorem dJ11_copyOf_3 : decode cJ11_copyOf 3 = .ok (.invokevirtual 86, 3) := dk_182 0 86 (dk_at dksJ11_copyOf_0 3 rfl rfl)
theorem dJ11_copyOf_6 : decode cJ11_copyOf 6 = .ok (.invokestatic 300, 3) := dk_184 1 44 (dk_at dksJ11_copyOf_0 6 rfl rfl)
theorem dJ11_copyOf_9 : decode cJ11_copyOf 9 = .ok (.areturn, 1) := dk_176 (dk_at dksJ11_copyOf_0 9 rfl rfl)
abbrev cJ11_copyOf_2 : ByteArray := prog_42_method_120_code
def yJ11_copyOf_2 : MethodName := ⟨RJ11, "copyOf", "([Ljava/lang/Object;ILjava/lang/Class;)[Ljava/lang/Object;"⟩
def dkwJ11_copyOf_2_1 : List UInt8 := [78, 42, 3, 45, 3, 42, 190, 27, 184, 1, 48, 184, 0, 150, 45, 176]
abbrev dktJ11_copyOf_2_1 : List UInt8 := dkwJ11_copyOf_2_1 ++ []
def dkwJ11_copyOf_2_0 : List UInt8 := [44, 18, 110, 166, 0, 10, 27, 189, 0, 2, 167, 0, 14, 44, 182, 0, 90, 27, 184, 0, 95, 192, 0, 110]
abbrev dktJ11_copyOf_2_0 : List UInt8 := dkwJ11_copyOf_2_0 ++ dktJ11_copyOf_2_1
theorem dksJ11_copyOf_2_0 : cJ11_copyOf_2.data.toList.drop 0 = dktJ11_copyOf_2_0 := by decide +kernel
theorem dksJ11_copyOf_2_1 : cJ11_copyOf_2.data.toList.drop 24 = dktJ11_copyOf_2_1 := dk_seg dksJ11_copyOf_2_0 24 rfl rfl
theorem dJ11_copyOf_2_0 : decode cJ11_copyOf_2 0 = .ok (.aload_n 2, 1) := dk_44 (dk_at dksJ11_copyOf_2_0 0 rfl rfl)
theorem dJ11_copyOf_2_1 : decode cJ11_copyOf_2 1 = .ok (.ldc 110, 2) := dk_18 110 (dk_at dksJ11_copyOf_2_0 1 rfl rfl)
theorem dJ11_copyOf_2_3 : decode cJ11_copyOf_2 3 = .ok (.if_acmp .ne 10, 3) := dk_166 0 10 (dk_at dksJ11_copyOf_2_0 3 rfl rfl)
theorem dJ11_copyOf_2_6 : decode cJ11_copyOf_2 6 = .ok (.iload_n 1, 1) := dk_27 (dk_at dksJ11_copyOf_2_0 6 rfl rfl)
theorem dJ11_copyOf_2_7 : decode cJ11_copyOf_2 7 = .ok (.anewarray 2, 3) := dk_189 0 2 (dk_at dksJ11_copyOf_2_0 7 rfl rfl)
theorem dJ11_copyOf_2_10 : decode cJ11_copyOf_2 10 = .ok (.goto 14, 3) := dk_167 0 14 (dk_at dksJ11_copyOf_2_0 10 rfl rfl)
theorem dJ11_copyOf_2_13 : decode cJ11_copyOf_2 13 = .ok (.aload_n 2, 1) := dk_44 (dk_at dksJ11_copyOf_2_0 13 rfl rfl)
theorem dJ11_copyOf_2_14 : decode cJ11_copyOf_2 14 = .ok (.invokevirtual 90, 3) := dk_182 0 90 (dk_at dksJ11_copyOf_2_0 14 rfl rfl)
theorem dJ11_copyOf_2_17 : decode cJ11_copyOf_2 17 = .ok (.iload_n 1, 1) := dk_27 (dk_at dksJ11_copyOf_2_0 17 rfl rfl)
theorem dJ11_copyOf_2_18 : decode cJ11_copyOf_2 18 = .ok (.invokestatic 95, 3) := dk_184 0 95 (dk_at dksJ11_copyOf_2_0 18 rfl rfl)
theorem dJ11_copyOf_2_21 : decode cJ11_copyOf_2 21 = .ok (.checkcast 110, 3) := dk_192 0 110 (dk_at dksJ11_copyOf_2_0 21 rfl rfl)
theorem dJ11_copyOf_2_24 : decode cJ11_copyOf_2 24 = .ok (.astore_n 3, 1) := dk_78 (dk_at dksJ11_copyOf_2_1 0 rfl rfl)
theorem dJ11_copyOf_2_25 : decode cJ11_copyOf_2 25 = .ok (.aload_n 0, 1) := dk_42 (dk_at dksJ11_copyOf_2_1 1 rfl rfl)
theorem dJ11_copyOf_2_26 : decode cJ11_copyOf_2 26 = .ok (.iconst 0, 1) := dk_3 (dk_at dksJ11_copyOf_2_1 2 rfl rfl)
theorem dJ11_copyOf_2_27 : decode cJ11_copyOf_2 27 = .ok (.aload_n 3, 1) := dk_45 (dk_at dksJ11_copyOf_2_1 3 rfl rfl)
theorem dJ11_copyOf_2_28 : decode cJ11_copyOf_2 28 = .ok (.iconst 0, 1) := dk_3 (dk_at dksJ11_copyOf_2_1 4 rfl rfl)
theorem dJ11_copyOf_2_29 : decode cJ11_copyOf_2 29 = .ok (.aload_n 0, 1) := dk_42 (dk_at dksJ11_copyOf_2_1 5 rfl rfl)
theorem dJ11_copyOf_2_30 : decode cJ11_copyOf_2 30 = .ok (.arraylength, 1) := dk_190 (dk_at dksJ11_copyOf_2_1 6 rfl rfl)
theorem dJ11_copyOf_2_31 : decode cJ11_copyOf_2 31 = .ok (.iload_n 1, 1) := dk_27 (dk_at dksJ11_copyOf_2_1 7 rfl rfl)
theorem dJ11_copyOf_2_32 : decode cJ11_copyOf_2 32 = .ok (.invokestatic 304, 3) := dk_184 1 48 (dk_at dksJ11_copyOf_2_1 8 rfl rfl)
theorem dJ11_copyOf_2_35 : decode cJ11_copyOf_2 35 = .ok (.invokestatic 150, 3) := dk_184 0 150 (dk_at dksJ11_copyOf_2_1 11 rfl rfl)
theorem dJ11_copyOf_2_38 : decode cJ11_copyOf_2 38 = .ok (.aload_n 3, 1) := dk_45 (dk_at dksJ11_copyOf_2_1 14 rfl rfl)
theorem dJ11_copyOf_2_39 : decode cJ11_copyOf_2 39 = .ok (.areturn, 1) := dk_176 (dk_at dksJ11_copyOf_2_1 15 rfl rfl)
theorem q163 : (Jvm.Cond.initialized "java/util/Arrays") ∈ lw_all := lw_g (lw_at lw_m1 24 rfl) rfl
theorem q760 : (Jvm.Cond.static ({ cls := "java/util/Arrays", name := "copyOf", desc := "([Ljava/lang/Object;I)[Ljava/lang/Object;" } : Jvm.MethodName)) ∈ lw_all := lw_g (lw_at lw_m3 141 rfl) rfl
theorem q761 : (Jvm.Cond.code ({ cls := "java/util/Arrays", name := "copyOf", desc := "([Ljava/lang/Object;I)[Ljava/lang/Object;" } : Jvm.MethodName) prog_42_method_119_code (2 : Nat) (Option.some (Jvm.ClassFile.FieldType.array (Jvm.ClassFile.FieldType.object "java/lang/Object")))) ∈ lw_all := lw_g (lw_at lw_m3 142 rfl) rfl
theorem q762 : (Jvm.Cond.methodLink "java/util/Arrays" (86 : Nat) ({ cls := "java/lang/Object", name := "getClass", desc := "()Ljava/lang/Class;" } : Jvm.MethodName)) ∈ lw_all := lw_g (lw_at lw_m3 143 rfl) rfl
theorem q789 : (Jvm.Cond.methodLink "java/util/Arrays" (300 : Nat) ({ cls := "java/util/Arrays", name := "copyOf", desc := "([Ljava/lang/Object;ILjava/lang/Class;)[Ljava/lang/Object;" } : Jvm.MethodName)) ∈ lw_all := lw_g (lw_at lw_m3 170 rfl) rfl
theorem q790 : (Jvm.Cond.static ({ cls := "java/util/Arrays", name := "copyOf", desc := "([Ljava/lang/Object;ILjava/lang/Class;)[Ljava/lang/Object;" } : Jvm.MethodName)) ∈ lw_all := lw_g (lw_at lw_m3 171 rfl) rfl
theorem q791 : (Jvm.Cond.code ({ cls := "java/util/Arrays", name := "copyOf", desc := "([Ljava/lang/Object;ILjava/lang/Class;)[Ljava/lang/Object;" } : Jvm.MethodName) prog_42_method_120_code (4 : Nat) (Option.some (Jvm.ClassFile.FieldType.array (Jvm.ClassFile.FieldType.object "java/lang/Object")))) ∈ lw_all := lw_g (lw_at lw_m3 172 rfl) rfl
theorem q792 : (Jvm.Cond.classLink "java/util/Arrays" (110 : Nat) "[Ljava/lang/Object;") ∈ lw_all := lw_g (lw_at lw_m3 173 rfl) rfl
theorem q793 : (Jvm.Cond.classLink "java/util/Arrays" (2 : Nat) "java/lang/Object") ∈ lw_all := lw_g (lw_at lw_m3 174 rfl) rfl
theorem q794 : (Jvm.Cond.methodLink "java/util/Arrays" (304 : Nat) ({ cls := "java/lang/Math", name := "min", desc := "(II)I" } : Jvm.MethodName)) ∈ lw_all := lw_g (lw_at lw_m3 175 rfl) rfl
theorem q795 : (Jvm.Cond.methodLink "java/util/Arrays" (150 : Nat) ({ cls := "java/lang/System", name := "arraycopy", desc := "(Ljava/lang/Object;ILjava/lang/Object;II)V" } : Jvm.MethodName)) ∈ lw_all := lw_g (lw_at lw_m3 176 rfl) rfl

/-! java/util/Objects -/
set_option maxRecDepth 100000
def RJ12 : String := "java/util/Objects"
abbrev cJ12_checkIndex : ByteArray := prog_45_method_17_code
def yJ12_checkIndex : MethodName := ⟨RJ12, "checkIndex", "(II)I"⟩
def dkwJ12_checkIndex_0 : List UInt8 := [26, 27, 1, 184, 0, 105, 172]
abbrev dktJ12_checkIndex_0 : List UInt8 := dkwJ12_checkIndex_0 ++ []
theorem dksJ12_checkIndex_0 : cJ12_checkIndex.data.toList.drop 0 = dktJ12_checkIndex_0 := by decide +kernel
theorem dJ12_checkIndex_0 : decode cJ12_checkIndex 0 = .ok (.iload_n 0, 1) := dk_26 (dk_at dksJ12_checkIndex_0 0 rfl rfl)
theorem dJ12_checkIndex_1 : decode cJ12_checkIndex 1 = .ok (.iload_n 1, 1) := dk_27 (dk_at dksJ12_checkIndex_0 1 rfl rfl)
theorem dJ12_checkIndex_2 : decode cJ12_checkIndex 2 = .ok (.aconst_null, 1) := dk_1 (dk_at dksJ12_checkIndex_0 2 rfl rfl)
theorem dJ12_checkIndex_3 : decode cJ12_checkIndex 3 = .ok (.invokestatic 105, 3) := dk_184 0 105 (dk_at dksJ12_checkIndex_0 3 rfl rfl)
theorem dJ12_checkIndex_6 : decode cJ12_checkIndex 6 = .ok (.ireturn, 1) := dk_172 (dk_at dksJ12_checkIndex_0 6 rfl rfl)
theorem q166 : (Jvm.Cond.initialized "java/util/Objects") ∈ lw_all := lw_g (lw_at lw_m1 27 rfl) rfl
theorem q838 : (Jvm.Cond.static ({ cls := "java/util/Objects", name := "checkIndex", desc := "(II)I" } : Jvm.MethodName)) ∈ lw_all := lw_g (lw_at lw_m3 219 rfl) rfl
theorem q839 : (Jvm.Cond.code ({ cls := "java/util/Objects", name := "checkIndex", desc := "(II)I" } : Jvm.MethodName) prog_45_method_17_code (2 : Nat) (Option.some Jvm.ClassFile.FieldType.int)) ∈ lw_all := lw_g (lw_at lw_m3 220 rfl) rfl
theorem q840 : (Jvm.Cond.methodLink "java/util/Objects" (105 : Nat) ({ cls := "jdk/internal/util/Preconditions", name := "checkIndex", desc := "(IILjava/util/function/BiFunction;)I" } : Jvm.MethodName)) ∈ lw_all := lw_g (lw_at lw_m3 221 rfl) rfl

/-! java/lang/Integer -/
set_option maxRecDepth 100000
def RJ13 : String := "java/lang/Integer"
abbrev cJ13_bitCount : ByteArray := prog_28_method_49_code
def yJ13_bitCount : MethodName := ⟨RJ13, "bitCount", "(I)I"⟩
def dkwJ13_bitCount_2 : List UInt8 := [26, 16, 63, 126, 172]
abbrev dktJ13_bitCount_2 : List UInt8 := dkwJ13_bitCount_2 ++ []
def dkwJ13_bitCount_1 : List UInt8 := [26, 26, 7, 124, 96, 19, 1, 11, 126, 59, 26, 26, 16, 8, 124, 96, 59, 26, 26, 16, 16, 124, 96, 59]
abbrev dktJ13_bitCount_1 : List UInt8 := dkwJ13_bitCount_1 ++ dktJ13_bitCount_2
def dkwJ13_bitCount_0 : List UInt8 := [26, 26, 4, 124, 19, 1, 9, 126, 100, 59, 26, 19, 1, 10, 126, 26, 5, 124, 19, 1, 10, 126, 96, 59]
abbrev dktJ13_bitCount_0 : List UInt8 := dkwJ13_bitCount_0 ++ dktJ13_bitCount_1
theorem dksJ13_bitCount_0 : cJ13_bitCount.data.toList.drop 0 = dktJ13_bitCount_0 := by decide +kernel
theorem dksJ13_bitCount_1 : cJ13_bitCount.data.toList.drop 24 = dktJ13_bitCount_1 := dk_seg dksJ13_bitCount_0 24 rfl rfl
theorem dksJ13_bitCount_2 : cJ13_bitCount.data.toList.drop 48 = dktJ13_bitCount_2 := dk_seg dksJ13_bitCount_1 24 rfl rfl
theorem dJ13_bitCount_0 : decode cJ13_bitCount 0 = .ok (.iload_n 0, 1) := dk_26 (dk_at dksJ13_bitCount_0 0 rfl rfl)
theorem dJ13_bitCount_1 : decode cJ13_bitCount 1 = .ok (.iload_n 0, 1) := dk_26 (dk_at dksJ13_bitCount_0 1 rfl rfl)
theorem dJ13_bitCount_2 : decode cJ13_bitCount 2 = .ok (.iconst 1, 1) := dk_4 (dk_at dksJ13_bitCount_0 2 rfl rfl)
theorem dJ13_bitCount_3 : decode cJ13_bitCount 3 = .ok (.iushr, 1) := dk_124 (dk_at dksJ13_bitCount_0 3 rfl rfl)
theorem dJ13_bitCount_4 : decode cJ13_bitCount 4 = .ok (.ldc_w 265, 3) := dk_19 1 9 (dk_at dksJ13_bitCount_0 4 rfl rfl)
theorem dJ13_bitCount_7 : decode cJ13_bitCount 7 = .ok (.iand, 1) := dk_126 (dk_at dksJ13_bitCount_0 7 rfl rfl)
theorem dJ13_bitCount_8 : decode cJ13_bitCount 8 = .ok (.isub, 1) := dk_100 (dk_at dksJ13_bitCount_0 8 rfl rfl)
theorem dJ13_bitCount_9 : decode cJ13_bitCount 9 = .ok (.istore_n 0, 1) := dk_59 (dk_at dksJ13_bitCount_0 9 rfl rfl)
theorem dJ13_bitCount_10 : decode cJ13_bitCount 10 = .ok (.iload_n 0, 1) := dk_26 (dk_at dksJ13_bitCount_0 10 rfl rfl)
theorem dJ13_bitCount_11 : decode cJ13_bitCount 11 = .ok (.ldc_w 266, 3) := dk_19 1 10 (dk_at dksJ13_bitCount_0 11 rfl rfl)
theorem dJ13_bitCount_14 : decode cJ13_bitCount 14 = .ok (.iand, 1) := dk_126 (dk_at dksJ13_bitCount_0 14 rfl rfl)
theorem dJ13_bitCount_15 : decode cJ13_bitCount 15 = .ok (.iload_n 0, 1) := dk_26 (dk_at dksJ13_bitCount_0 15 rfl rfl)
theorem dJ13_bitCount_16 : decode cJ13_bitCount 16 = .ok (.iconst 2, 1) := dk_5 (dk_at dksJ13_bitCount_0 16 rfl rfl)
theorem dJ13_bitCount_17 : decode cJ13_bitCount 17 = .ok (.iushr, 1) := dk_124 (dk_at dksJ13_bitCount_0 17 rfl rfl)
theorem dJ13_bitCount_18 : decode cJ13_bitCount 18 = .ok (.ldc_w 266, 3) := dk_19 1 10 (dk_at dksJ13_bitCount_0 18 rfl rfl)
theorem dJ13_bitCount_21 : decode cJ13_bitCount 21 = .ok (.iand, 1) := dk_126 (dk_at dksJ13_bitCount_0 21 rfl rfl)
theorem dJ13_bitCount_22 : decode cJ13_bitCount 22 = .ok (.iadd, 1) := dk_96 (dk_at dksJ13_bitCount_0 22 rfl rfl)
theorem dJ13_bitCount_23 : decode cJ13_bitCount 23 = .ok (.istore_n 0, 1) := dk_59 (dk_at dksJ13_bitCount_0 23 rfl rfl)
theorem dJ13_bitCount_24 : decode cJ13_bitCount 24 = .ok (.iload_n 0, 1) := dk_26 (dk_at dksJ13_bitCount_1 0 rfl rfl)
theorem dJ13_bitCount_25 : decode cJ13_bitCount 25 = .ok (.iload_n 0, 1) := dk_26 (dk_at dksJ13_bitCount_1 1 rfl rfl)
theorem dJ13_bitCount_26 : decode cJ13_bitCount 26 = .ok (.iconst 4, 1) := dk_7 (dk_at dksJ13_bitCount_1 2 rfl rfl)
theorem dJ13_bitCount_27 : decode cJ13_bitCount 27 = .ok (.iushr, 1) := dk_124 (dk_at dksJ13_bitCount_1 3 rfl rfl)
theorem dJ13_bitCount_28 : decode cJ13_bitCount 28 = .ok (.iadd, 1) := dk_96 (dk_at dksJ13_bitCount_1 4 rfl rfl)
theorem dJ13_bitCount_29 : decode cJ13_bitCount 29 = .ok (.ldc_w 267, 3) := dk_19 1 11 (dk_at dksJ13_bitCount_1 5 rfl rfl)
theorem dJ13_bitCount_32 : decode cJ13_bitCount 32 = .ok (.iand, 1) := dk_126 (dk_at dksJ13_bitCount_1 8 rfl rfl)
theorem dJ13_bitCount_33 : decode cJ13_bitCount 33 = .ok (.istore_n 0, 1) := dk_59 (dk_at dksJ13_bitCount_1 9 rfl rfl)
theorem dJ13_bitCount_34 : decode cJ13_bitCount 34 = .ok (.iload_n 0, 1) := dk_26 (dk_at dksJ13_bitCount_1 10 rfl rfl)
theorem dJ13_bitCount_35 : decode cJ13_bitCount 35 = .ok (.iload_n 0, 1) := dk_26 (dk_at dksJ13_bitCount_1 11 rfl rfl)
theorem dJ13_bitCount_36 : decode cJ13_bitCount 36 = .ok (.bipush 8, 2) := dk_16 8 (dk_at dksJ13_bitCount_1 12 rfl rfl)
theorem dJ13_bitCount_38 : decode cJ13_bitCount 38 = .ok (.iushr, 1) := dk_124 (dk_at dksJ13_bitCount_1 14 rfl rfl)
theorem dJ13_bitCount_39 : decode cJ13_bitCount 39 = .ok (.iadd, 1) := dk_96 (dk_at dksJ13_bitCount_1 15 rfl rfl)
theorem dJ13_bitCount_40 : decode cJ13_bitCount 40 = .ok (.istore_n 0, 1) := dk_59 (dk_at dksJ13_bitCount_1 16 rfl rfl)
theorem dJ13_bitCount_41 : decode cJ13_bitCount 41 = .ok (.iload_n 0, 1) := dk_26 (dk_at dksJ13_bitCount_1 17 rfl rfl)
theorem dJ13_bitCount_42 : decode cJ13_bitCount 42 = .ok (.iload_n 0, 1) := dk_26 (dk_at dksJ13_bitCount_1 18 rfl rfl)
theorem dJ13_bitCount_43 : decode cJ13_bitCount 43 = .ok (.bipush 16, 2) := dk_16 16 (dk_at dksJ13_bitCount_1 19 rfl rfl)
theorem dJ13_bitCount_45 : decode cJ13_bitCount 45 = .ok (.iushr, 1) := dk_124 (dk_at dksJ13_bitCount_1 21 rfl rfl)
theorem dJ13_bitCount_46 : decode cJ13_bitCount 46 = .ok (.iadd, 1) := dk_96 (dk_at dksJ13_bitCount_1 22 rfl rfl)
theorem dJ13_bitCount_47 : decode cJ13_bitCount 47 = .ok (.istore_n 0, 1) := dk_59 (dk_at dksJ13_bitCount_1 23 rfl rfl)
theorem dJ13_bitCount_48 : decode cJ13_bitCount 48 = .ok (.iload_n 0, 1) := dk_26 (dk_at dksJ13_bitCount_2 0 rfl rfl)
theorem dJ13_bitCount_49 : decode cJ13_bitCount 49 = .ok (.bipush 63, 2) := dk_16 63 (dk_at dksJ13_bitCount_2 1 rfl rfl)
theorem dJ13_bitCount_51 : decode cJ13_bitCount 51 = .ok (.iand, 1) := dk_126 (dk_at dksJ13_bitCount_2 3 rfl rfl)
theorem dJ13_bitCount_52 : decode cJ13_bitCount 52 = .ok (.ireturn, 1) := dk_172 (dk_at dksJ13_bitCount_2 4 rfl rfl)
theorem q172 : (Jvm.Cond.initialized "java/lang/Integer") ∈ lw_all := lw_g (lw_at lw_m1 33 rfl) rfl
theorem q1124 : (Jvm.Cond.static ({ cls := "java/lang/Integer", name := "bitCount", desc := "(I)I" } : Jvm.MethodName)) ∈ lw_all := lw_g (lw_at lw_m5 25 rfl) rfl
theorem q1125 : (Jvm.Cond.code ({ cls := "java/lang/Integer", name := "bitCount", desc := "(I)I" } : Jvm.MethodName) prog_28_method_49_code (1 : Nat) (Option.some Jvm.ClassFile.FieldType.int)) ∈ lw_all := lw_g (lw_at lw_m5 26 rfl) rfl
theorem q1126 : (Jvm.Cond.constant "java/lang/Integer" (265 : Nat) (1431655765 : Int32)) ∈ lw_all := lw_g (lw_at lw_m5 27 rfl) rfl
theorem q1127 : (Jvm.Cond.constant "java/lang/Integer" (266 : Nat) (858993459 : Int32)) ∈ lw_all := lw_g (lw_at lw_m5 28 rfl) rfl
theorem q1128 : (Jvm.Cond.constant "java/lang/Integer" (267 : Nat) (252645135 : Int32)) ∈ lw_all := lw_g (lw_at lw_m5 29 rfl) rfl

/-! java/lang/RuntimeException -/
set_option maxRecDepth 100000
def RJ14 : String := "java/lang/RuntimeException"
abbrev cJ14_init : ByteArray := prog_33_method_1_code
def yJ14_init : MethodName := ⟨RJ14, "<init>", "()V"⟩
theorem dJ14_init_0 : decode cJ14_init 0 = .ok (.aload_n 0, 1) := by decide +kernel
theorem dJ14_init_1 : decode cJ14_init 1 = .ok (.invokespecial 1, 3) := by decide +kernel
theorem dJ14_init_4 : decode cJ14_init 4 = .ok (.return_, 1) := by decide +kernel
abbrev cJ14_init_2 : ByteArray := prog_33_method_2_code
def yJ14_init_2 : MethodName := ⟨RJ14, "<init>", "(Ljava/lang/String;)V"⟩
def dkwJ14_init_2_0 : List UInt8 := [42, 43, 183, 0, 7, 177]
abbrev dktJ14_init_2_0 : List UInt8 := dkwJ14_init_2_0 ++ []
theorem dksJ14_init_2_0 : cJ14_init_2.data.toList.drop 0 = dktJ14_init_2_0 := by decide +kernel
theorem dJ14_init_2_0 : decode cJ14_init_2 0 = .ok (.aload_n 0, 1) := dk_42 (dk_at dksJ14_init_2_0 0 rfl rfl)
theorem dJ14_init_2_1 : decode cJ14_init_2 1 = .ok (.aload_n 1, 1) := dk_43 (dk_at dksJ14_init_2_0 1 rfl rfl)
theorem dJ14_init_2_2 : decode cJ14_init_2 2 = .ok (.invokespecial 7, 3) := dk_183 0 7 (dk_at dksJ14_init_2_0 2 rfl rfl)
theorem dJ14_init_2_5 : decode cJ14_init_2 5 = .ok (.return_, 1) := dk_177 (dk_at dksJ14_init_2_0 5 rfl rfl)
theorem q175 : (Jvm.Cond.initialized "java/lang/RuntimeException") ∈ lw_all := lw_g (lw_at lw_m1 36 rfl) rfl
theorem q644 : (Jvm.Cond.sameMethod "java/lang/RuntimeException" "java/lang/Throwable" "fillInStackTrace" "()Ljava/lang/Throwable;") ∈ lw_all := lw_g (lw_at lw_m3 25 rfl) rfl
theorem q647 : (Jvm.Cond.superclass "java/lang/RuntimeException" "java/lang/Exception") ∈ lw_all := lw_g (lw_at lw_m3 28 rfl) rfl
theorem q1551 : (Jvm.Cond.instanceMethod ({ cls := "java/lang/RuntimeException", name := "<init>", desc := "()V" } : Jvm.MethodName)) ∈ lw_all := lw_g (lw_at lw_m6 212 rfl) rfl
theorem q1552 : (Jvm.Cond.code ({ cls := "java/lang/RuntimeException", name := "<init>", desc := "()V" } : Jvm.MethodName) prog_33_method_1_code (1 : Nat) (Option.none : Option Jvm.ClassFile.FieldType)) ∈ lw_all := lw_g (lw_at lw_m6 213 rfl) rfl
theorem q1553 : (Jvm.Cond.methodLink "java/lang/RuntimeException" (1 : Nat) ({ cls := "java/lang/Exception", name := "<init>", desc := "()V" } : Jvm.MethodName)) ∈ lw_all := lw_g (lw_at lw_m6 214 rfl) rfl
theorem q1570 : (Jvm.Cond.declares ({ cls := "java/lang/RuntimeException", name := "<init>", desc := "()V" } : Jvm.MethodName)) ∈ lw_tbl := lw_at lw_m6 231 rfl
theorem q1571 : (Jvm.Cond.declares ({ cls := "java/lang/RuntimeException", name := "<init>", desc := "(Ljava/lang/String;)V" } : Jvm.MethodName)) ∈ lw_tbl := lw_at lw_m6 232 rfl
theorem q1573 : (Jvm.Cond.castable "java/lang/RuntimeException" "java/lang/Throwable") ∈ lw_tbl := lw_at lw_m6 234 rfl
theorem q1668 : (Jvm.Cond.instanceMethod ({ cls := "java/lang/RuntimeException", name := "<init>", desc := "(Ljava/lang/String;)V" } : Jvm.MethodName)) ∈ lw_all := lw_g (lw_at lw_m7 89 rfl) rfl
theorem q1669 : (Jvm.Cond.code ({ cls := "java/lang/RuntimeException", name := "<init>", desc := "(Ljava/lang/String;)V" } : Jvm.MethodName) prog_33_method_2_code (2 : Nat) (Option.none : Option Jvm.ClassFile.FieldType)) ∈ lw_all := lw_g (lw_at lw_m7 90 rfl) rfl
theorem q1670 : (Jvm.Cond.methodLink "java/lang/RuntimeException" (7 : Nat) ({ cls := "java/lang/Exception", name := "<init>", desc := "(Ljava/lang/String;)V" } : Jvm.MethodName)) ∈ lw_all := lw_g (lw_at lw_m7 91 rfl) rfl

/-! java/lang/NullPointerException -/
set_option maxRecDepth 100000
def RJ15 : String := "java/lang/NullPointerException"
def TJ15 : u_T := fun k => match k with
  | 0 => ("java/lang/Throwable", "backtrace", "Ljava/lang/Object;", false)
  | 1 => ("java/lang/Throwable", "detailMessage", "Ljava/lang/String;", false)
  | 2 => ("java/lang/Throwable", "cause", "Ljava/lang/Throwable;", false)
  | 3 => ("java/lang/Throwable", "stackTrace", "[Ljava/lang/StackTraceElement;", false)
  | 4 => ("java/lang/Throwable", "depth", "I", false)
  | 5 => ("java/lang/Throwable", "suppressedExceptions", "Ljava/util/List;", false)
  | 6 => ("java/lang/NullPointerException", "extendedMessageState", "I", false)
  | _ => ("java/lang/NullPointerException", "extendedMessage", "Ljava/lang/String;", false)
def tyJ15 : Nat → FieldType := fun k => match k with
  | 0 => .object "java/lang/Object"
  | 1 => .object "java/lang/String"
  | 2 => .object "java/lang/Throwable"
  | 3 => .array (.object "java/lang/StackTraceElement")
  | 4 => .int
  | 5 => .object "java/util/List"
  | 6 => .int
  | _ => .object "java/lang/String"
abbrev wsJ150 : List Cond := u_ws RJ15 TJ15 8
theorem nmJ15 : ∀ a, a < 8 → ∀ b, b < 8 → a ≠ b → (TJ15 a).2.1 ≠ (TJ15 b).2.1 := by decide +kernel
theorem tyJ15_ok : ∀ k, k < 8 → parseFieldDescriptor (TJ15 k).2.2.1 = some (tyJ15 k) := by decide +kernel
abbrev cJ15_init : ByteArray := prog_32_method_1_code
def yJ15_init : MethodName := ⟨RJ15, "<init>", "()V"⟩
theorem dJ15_init_0 : decode cJ15_init 0 = .ok (.aload_n 0, 1) := by decide +kernel
theorem dJ15_init_1 : decode cJ15_init 1 = .ok (.invokespecial 1, 3) := by decide +kernel
theorem dJ15_init_4 : decode cJ15_init 4 = .ok (.return_, 1) := by decide +kernel
theorem q176 : (Jvm.Cond.initialized "java/lang/NullPointerException") ∈ lw_all := lw_g (lw_at lw_m1 37 rfl) rfl
theorem q635 : (Jvm.Cond.selects "java/lang/NullPointerException" ({ cls := "java/lang/Throwable", name := "fillInStackTrace", desc := "()Ljava/lang/Throwable;" } : Jvm.MethodName) ({ cls := "java/lang/NullPointerException", name := "fillInStackTrace", desc := "()Ljava/lang/Throwable;" } : Jvm.MethodName)) ∈ lw_all := lw_g (lw_at lw_m3 16 rfl) rfl
theorem q636 : (Jvm.Cond.instanceMethod ({ cls := "java/lang/NullPointerException", name := "fillInStackTrace", desc := "()Ljava/lang/Throwable;" } : Jvm.MethodName)) ∈ lw_all := lw_g (lw_at lw_m3 17 rfl) rfl
theorem q637 : (Jvm.Cond.codeSync ({ cls := "java/lang/NullPointerException", name := "fillInStackTrace", desc := "()Ljava/lang/Throwable;" } : Jvm.MethodName) prog_32_method_3_code (1 : Nat) (Option.some (Jvm.ClassFile.FieldType.object "java/lang/Throwable"))) ∈ lw_all := lw_g (lw_at lw_m3 18 rfl) rfl
theorem q638 : (Jvm.Cond.methodLink "java/lang/NullPointerException" (16 : Nat) ({ cls := "java/lang/NullPointerException", name := "getExtendedNPEMessage", desc := "()Ljava/lang/String;" } : Jvm.MethodName)) ∈ lw_all := lw_g (lw_at lw_m3 19 rfl) rfl
theorem q639 : (Jvm.Cond.privateMethod ({ cls := "java/lang/NullPointerException", name := "getExtendedNPEMessage", desc := "()Ljava/lang/String;" } : Jvm.MethodName)) ∈ lw_tbl := lw_at lw_m3 20 rfl
theorem q640 : (Jvm.Cond.instanceMethod ({ cls := "java/lang/NullPointerException", name := "getExtendedNPEMessage", desc := "()Ljava/lang/String;" } : Jvm.MethodName)) ∈ lw_all := lw_g (lw_at lw_m3 21 rfl) rfl
theorem q641 : (Jvm.Cond.instantiable "java/lang/NullPointerException" (8 : Nat)) ∈ lw_all := lw_g (lw_at lw_m3 22 rfl) rfl
theorem q642 : (Jvm.Cond.native ({ cls := "java/lang/NullPointerException", name := "getExtendedNPEMessage", desc := "()Ljava/lang/String;" } : Jvm.MethodName)) ∈ lw_all := lw_g (lw_at lw_m3 23 rfl) rfl
theorem q643 : (Jvm.Cond.methodLink "java/lang/NullPointerException" (24 : Nat) ({ cls := "java/lang/RuntimeException", name := "fillInStackTrace", desc := "()Ljava/lang/Throwable;" } : Jvm.MethodName)) ∈ lw_all := lw_g (lw_at lw_m3 24 rfl) rfl
theorem q646 : (Jvm.Cond.superclass "java/lang/NullPointerException" "java/lang/RuntimeException") ∈ lw_all := lw_g (lw_at lw_m3 27 rfl) rfl
theorem q786 : (Jvm.Cond.selects "java/lang/NullPointerException" ({ cls := "java/lang/Object", name := "getClass", desc := "()Ljava/lang/Class;" } : Jvm.MethodName) ({ cls := "java/lang/Object", name := "getClass", desc := "()Ljava/lang/Class;" } : Jvm.MethodName)) ∈ lw_all := lw_g (lw_at lw_m3 167 rfl) rfl
theorem q1548 : (Jvm.Cond.instanceMethod ({ cls := "java/lang/NullPointerException", name := "<init>", desc := "()V" } : Jvm.MethodName)) ∈ lw_all := lw_g (lw_at lw_m6 209 rfl) rfl
theorem q1549 : (Jvm.Cond.code ({ cls := "java/lang/NullPointerException", name := "<init>", desc := "()V" } : Jvm.MethodName) prog_32_method_1_code (1 : Nat) (Option.none : Option Jvm.ClassFile.FieldType)) ∈ lw_all := lw_g (lw_at lw_m6 210 rfl) rfl
theorem q1550 : (Jvm.Cond.methodLink "java/lang/NullPointerException" (1 : Nat) ({ cls := "java/lang/RuntimeException", name := "<init>", desc := "()V" } : Jvm.MethodName)) ∈ lw_all := lw_g (lw_at lw_m6 211 rfl) rfl
theorem q1557 : (Jvm.Cond.fieldLink "java/lang/NullPointerException" (10 : Nat) "java/lang/NullPointerException" "extendedMessageState" "I") ∈ lw_all := lw_g (lw_at lw_m6 218 rfl) rfl
theorem q1558 : (Jvm.Cond.fieldLink "java/lang/NullPointerException" (20 : Nat) "java/lang/NullPointerException" "extendedMessage" "Ljava/lang/String;") ∈ lw_all := lw_g (lw_at lw_m6 219 rfl) rfl
theorem q1559 : (Jvm.Cond.lays "java/lang/NullPointerException" "java/lang/NullPointerException" "extendedMessageState" "I") ∈ lw_all := lw_g (lw_at lw_m6 220 rfl) rfl
theorem q1560 : (Jvm.Cond.soleField "java/lang/NullPointerException" "extendedMessageState") ∈ lw_all := lw_g (lw_at lw_m6 221 rfl) rfl
theorem q1561 : (Jvm.Cond.lays "java/lang/NullPointerException" "java/lang/NullPointerException" "extendedMessage" "Ljava/lang/String;") ∈ lw_all := lw_g (lw_at lw_m6 222 rfl) rfl
theorem q1562 : (Jvm.Cond.soleField "java/lang/NullPointerException" "extendedMessage") ∈ lw_all := lw_g (lw_at lw_m6 223 rfl) rfl
theorem q1563 : (Jvm.Cond.lays "java/lang/NullPointerException" "java/lang/Throwable" "backtrace" "Ljava/lang/Object;") ∈ lw_all := lw_g (lw_at lw_m6 224 rfl) rfl
theorem q1564 : (Jvm.Cond.lays "java/lang/NullPointerException" "java/lang/Throwable" "detailMessage" "Ljava/lang/String;") ∈ lw_all := lw_g (lw_at lw_m6 225 rfl) rfl
theorem q1565 : (Jvm.Cond.lays "java/lang/NullPointerException" "java/lang/Throwable" "cause" "Ljava/lang/Throwable;") ∈ lw_all := lw_g (lw_at lw_m6 226 rfl) rfl
theorem q1566 : (Jvm.Cond.lays "java/lang/NullPointerException" "java/lang/Throwable" "stackTrace" "[Ljava/lang/StackTraceElement;") ∈ lw_all := lw_g (lw_at lw_m6 227 rfl) rfl
theorem q1567 : (Jvm.Cond.lays "java/lang/NullPointerException" "java/lang/Throwable" "depth" "I") ∈ lw_all := lw_g (lw_at lw_m6 228 rfl) rfl
theorem q1568 : (Jvm.Cond.lays "java/lang/NullPointerException" "java/lang/Throwable" "suppressedExceptions" "Ljava/util/List;") ∈ lw_all := lw_g (lw_at lw_m6 229 rfl) rfl
theorem q1569 : (Jvm.Cond.castable "java/lang/NullPointerException" "java/lang/NullPointerException") ∈ lw_tbl := lw_at lw_m6 230 rfl
theorem q1572 : (Jvm.Cond.selects "java/lang/NullPointerException" ({ cls := "java/lang/Throwable", name := "fillInStackTrace", desc := "(I)Ljava/lang/Throwable;" } : Jvm.MethodName) ({ cls := "java/lang/Throwable", name := "fillInStackTrace", desc := "(I)Ljava/lang/Throwable;" } : Jvm.MethodName)) ∈ lw_all := lw_g (lw_at lw_m6 233 rfl) rfl
theorem q2556 : (Jvm.Cond.castable "java/lang/NullPointerException" "java/lang/Object") ∈ lw_tbl := lw_at lw_m11 17 rfl
theorem in_J15 : ∀ w ∈ wsJ150, w ∈ lw_all := lw_in wsJ150 [1563, 1564, 1565, 1566, 1567, 1568, 1559, 1561] (by decide +kernel) (by decide +kernel)

/-! java/lang/NegativeArraySizeException -/
set_option maxRecDepth 100000
def RJ16 : String := "java/lang/NegativeArraySizeException"
def TJ16 : u_T := fun k => match k with
  | 0 => ("java/lang/Throwable", "backtrace", "Ljava/lang/Object;", false)
  | 1 => ("java/lang/Throwable", "detailMessage", "Ljava/lang/String;", false)
  | 2 => ("java/lang/Throwable", "cause", "Ljava/lang/Throwable;", false)
  | 3 => ("java/lang/Throwable", "stackTrace", "[Ljava/lang/StackTraceElement;", false)
  | 4 => ("java/lang/Throwable", "depth", "I", false)
  | _ => ("java/lang/Throwable", "suppressedExceptions", "Ljava/util/List;", false)
def tyJ16 : Nat → FieldType := fun k => match k with
  | 0 => .object "java/lang/Object"
  | 1 => .object "java/lang/String"
  | 2 => .object "java/lang/Throwable"
  | 3 => .array (.object "java/lang/StackTraceElement")
  | 4 => .int
  | _ => .object "java/util/List"
abbrev wsJ160 : List Cond := u_ws RJ16 TJ16 6
theorem nmJ16 : ∀ a, a < 6 → ∀ b, b < 6 → a ≠ b → (TJ16 a).2.1 ≠ (TJ16 b).2.1 := by decide +kernel
theorem tyJ16_ok : ∀ k, k < 6 → parseFieldDescriptor (TJ16 k).2.2.1 = some (tyJ16 k) := by decide +kernel
abbrev cJ16_init : ByteArray := prog_31_method_2_code
def yJ16_init : MethodName := ⟨RJ16, "<init>", "(Ljava/lang/String;)V"⟩
def dkwJ16_init_0 : List UInt8 := [42, 43, 183, 0, 7, 177]
abbrev dktJ16_init_0 : List UInt8 := dkwJ16_init_0 ++ []
theorem dksJ16_init_0 : cJ16_init.data.toList.drop 0 = dktJ16_init_0 := by decide +kernel
theorem dJ16_init_0 : decode cJ16_init 0 = .ok (.aload_n 0, 1) := dk_42 (dk_at dksJ16_init_0 0 rfl rfl)
theorem dJ16_init_1 : decode cJ16_init 1 = .ok (.aload_n 1, 1) := dk_43 (dk_at dksJ16_init_0 1 rfl rfl)
theorem dJ16_init_2 : decode cJ16_init 2 = .ok (.invokespecial 7, 3) := dk_183 0 7 (dk_at dksJ16_init_0 2 rfl rfl)
theorem dJ16_init_5 : decode cJ16_init 5 = .ok (.return_, 1) := dk_177 (dk_at dksJ16_init_0 5 rfl rfl)
theorem q177 : (Jvm.Cond.initialized "java/lang/NegativeArraySizeException") ∈ lw_all := lw_g (lw_at lw_m1 38 rfl) rfl
theorem q634 : (Jvm.Cond.selects "java/lang/NegativeArraySizeException" ({ cls := "java/lang/Throwable", name := "fillInStackTrace", desc := "()Ljava/lang/Throwable;" } : Jvm.MethodName) ({ cls := "java/lang/Throwable", name := "fillInStackTrace", desc := "()Ljava/lang/Throwable;" } : Jvm.MethodName)) ∈ lw_all := lw_g (lw_at lw_m3 15 rfl) rfl
theorem q785 : (Jvm.Cond.selects "java/lang/NegativeArraySizeException" ({ cls := "java/lang/Object", name := "getClass", desc := "()Ljava/lang/Class;" } : Jvm.MethodName) ({ cls := "java/lang/Object", name := "getClass", desc := "()Ljava/lang/Class;" } : Jvm.MethodName)) ∈ lw_all := lw_g (lw_at lw_m3 166 rfl) rfl
theorem q1664 : (Jvm.Cond.instantiable "java/lang/NegativeArraySizeException" (6 : Nat)) ∈ lw_all := lw_g (lw_at lw_m7 85 rfl) rfl
theorem q1665 : (Jvm.Cond.instanceMethod ({ cls := "java/lang/NegativeArraySizeException", name := "<init>", desc := "(Ljava/lang/String;)V" } : Jvm.MethodName)) ∈ lw_all := lw_g (lw_at lw_m7 86 rfl) rfl
theorem q1666 : (Jvm.Cond.code ({ cls := "java/lang/NegativeArraySizeException", name := "<init>", desc := "(Ljava/lang/String;)V" } : Jvm.MethodName) prog_31_method_2_code (2 : Nat) (Option.none : Option Jvm.ClassFile.FieldType)) ∈ lw_all := lw_g (lw_at lw_m7 87 rfl) rfl
theorem q1667 : (Jvm.Cond.methodLink "java/lang/NegativeArraySizeException" (7 : Nat) ({ cls := "java/lang/RuntimeException", name := "<init>", desc := "(Ljava/lang/String;)V" } : Jvm.MethodName)) ∈ lw_all := lw_g (lw_at lw_m7 88 rfl) rfl
theorem q1676 : (Jvm.Cond.lays "java/lang/NegativeArraySizeException" "java/lang/Throwable" "backtrace" "Ljava/lang/Object;") ∈ lw_all := lw_g (lw_at lw_m7 97 rfl) rfl
theorem q1677 : (Jvm.Cond.lays "java/lang/NegativeArraySizeException" "java/lang/Throwable" "detailMessage" "Ljava/lang/String;") ∈ lw_all := lw_g (lw_at lw_m7 98 rfl) rfl
theorem q1678 : (Jvm.Cond.lays "java/lang/NegativeArraySizeException" "java/lang/Throwable" "cause" "Ljava/lang/Throwable;") ∈ lw_all := lw_g (lw_at lw_m7 99 rfl) rfl
theorem q1679 : (Jvm.Cond.lays "java/lang/NegativeArraySizeException" "java/lang/Throwable" "stackTrace" "[Ljava/lang/StackTraceElement;") ∈ lw_all := lw_g (lw_at lw_m7 100 rfl) rfl
theorem q1680 : (Jvm.Cond.lays "java/lang/NegativeArraySizeException" "java/lang/Throwable" "depth" "I") ∈ lw_all := lw_g (lw_at lw_m7 101 rfl) rfl
theorem q1681 : (Jvm.Cond.lays "java/lang/NegativeArraySizeException" "java/lang/Throwable" "suppressedExceptions" "Ljava/util/List;") ∈ lw_all := lw_g (lw_at lw_m7 102 rfl) rfl
theorem q1682 : (Jvm.Cond.superclass "java/lang/NegativeArraySizeException" "java/lang/RuntimeException") ∈ lw_all := lw_g (lw_at lw_m7 103 rfl) rfl
theorem q1683 : (Jvm.Cond.castable "java/lang/NegativeArraySizeException" "java/lang/NegativeArraySizeException") ∈ lw_tbl := lw_at lw_m7 104 rfl
theorem q1684 : (Jvm.Cond.selects "java/lang/NegativeArraySizeException" ({ cls := "java/lang/Throwable", name := "fillInStackTrace", desc := "(I)Ljava/lang/Throwable;" } : Jvm.MethodName) ({ cls := "java/lang/Throwable", name := "fillInStackTrace", desc := "(I)Ljava/lang/Throwable;" } : Jvm.MethodName)) ∈ lw_all := lw_g (lw_at lw_m7 105 rfl) rfl
theorem q2557 : (Jvm.Cond.castable "java/lang/NegativeArraySizeException" "java/lang/Object") ∈ lw_tbl := lw_at lw_m11 18 rfl
theorem in_J16 : ∀ w ∈ wsJ160, w ∈ lw_all := lw_in wsJ160 [1676, 1677, 1678, 1679, 1680, 1681] (by decide +kernel) (by decide +kernel)

/-! java/lang/IndexOutOfBoundsException -/
set_option maxRecDepth 100000
def RJ17 : String := "java/lang/IndexOutOfBoundsException"
abbrev cJ17_init : ByteArray := prog_27_method_2_code
def yJ17_init : MethodName := ⟨RJ17, "<init>", "(Ljava/lang/String;)V"⟩
def dkwJ17_init_0 : List UInt8 := [42, 43, 183, 0, 7, 177]
abbrev dktJ17_init_0 : List UInt8 := dkwJ17_init_0 ++ []
theorem dksJ17_init_0 : cJ17_init.data.toList.drop 0 = dktJ17_init_0 := by decide +kernel
theorem dJ17_init_0 : decode cJ17_init 0 = .ok (.aload_n 0, 1) := dk_42 (dk_at dksJ17_init_0 0 rfl rfl)
theorem dJ17_init_1 : decode cJ17_init 1 = .ok (.aload_n 1, 1) := dk_43 (dk_at dksJ17_init_0 1 rfl rfl)
theorem dJ17_init_2 : decode cJ17_init 2 = .ok (.invokespecial 7, 3) := dk_183 0 7 (dk_at dksJ17_init_0 2 rfl rfl)
theorem dJ17_init_5 : decode cJ17_init 5 = .ok (.return_, 1) := dk_177 (dk_at dksJ17_init_0 5 rfl rfl)
theorem q178 : (Jvm.Cond.initialized "java/lang/IndexOutOfBoundsException") ∈ lw_all := lw_g (lw_at lw_m1 39 rfl) rfl
theorem q1704 : (Jvm.Cond.instanceMethod ({ cls := "java/lang/IndexOutOfBoundsException", name := "<init>", desc := "(Ljava/lang/String;)V" } : Jvm.MethodName)) ∈ lw_all := lw_g (lw_at lw_m7 125 rfl) rfl
theorem q1705 : (Jvm.Cond.code ({ cls := "java/lang/IndexOutOfBoundsException", name := "<init>", desc := "(Ljava/lang/String;)V" } : Jvm.MethodName) prog_27_method_2_code (2 : Nat) (Option.none : Option Jvm.ClassFile.FieldType)) ∈ lw_all := lw_g (lw_at lw_m7 126 rfl) rfl
theorem q1706 : (Jvm.Cond.methodLink "java/lang/IndexOutOfBoundsException" (7 : Nat) ({ cls := "java/lang/RuntimeException", name := "<init>", desc := "(Ljava/lang/String;)V" } : Jvm.MethodName)) ∈ lw_all := lw_g (lw_at lw_m7 127 rfl) rfl
theorem q1715 : (Jvm.Cond.declares ({ cls := "java/lang/IndexOutOfBoundsException", name := "<init>", desc := "()V" } : Jvm.MethodName)) ∈ lw_tbl := lw_at lw_m7 136 rfl
theorem q1716 : (Jvm.Cond.declares ({ cls := "java/lang/IndexOutOfBoundsException", name := "<init>", desc := "(Ljava/lang/String;)V" } : Jvm.MethodName)) ∈ lw_tbl := lw_at lw_m7 137 rfl

/-! java/lang/ArrayIndexOutOfBoundsException -/
set_option maxRecDepth 100000
def RJ18 : String := "java/lang/ArrayIndexOutOfBoundsException"
def TJ18 : u_T := fun k => match k with
  | 0 => ("java/lang/Throwable", "backtrace", "Ljava/lang/Object;", false)
  | 1 => ("java/lang/Throwable", "detailMessage", "Ljava/lang/String;", false)
  | 2 => ("java/lang/Throwable", "cause", "Ljava/lang/Throwable;", false)
  | 3 => ("java/lang/Throwable", "stackTrace", "[Ljava/lang/StackTraceElement;", false)
  | 4 => ("java/lang/Throwable", "depth", "I", false)
  | _ => ("java/lang/Throwable", "suppressedExceptions", "Ljava/util/List;", false)
def tyJ18 : Nat → FieldType := fun k => match k with
  | 0 => .object "java/lang/Object"
  | 1 => .object "java/lang/String"
  | 2 => .object "java/lang/Throwable"
  | 3 => .array (.object "java/lang/StackTraceElement")
  | 4 => .int
  | _ => .object "java/util/List"
abbrev wsJ180 : List Cond := u_ws RJ18 TJ18 6
theorem nmJ18 : ∀ a, a < 6 → ∀ b, b < 6 → a ≠ b → (TJ18 a).2.1 ≠ (TJ18 b).2.1 := by decide +kernel
theorem tyJ18_ok : ∀ k, k < 6 → parseFieldDescriptor (TJ18 k).2.2.1 = some (tyJ18 k) := by decide +kernel
abbrev cJ18_init : ByteArray := prog_22_method_2_code
def yJ18_init : MethodName := ⟨RJ18, "<init>", "(Ljava/lang/String;)V"⟩
def dkwJ18_init_0 : List UInt8 := [42, 43, 183, 0, 7, 177]
abbrev dktJ18_init_0 : List UInt8 := dkwJ18_init_0 ++ []
theorem dksJ18_init_0 : cJ18_init.data.toList.drop 0 = dktJ18_init_0 := by decide +kernel
theorem dJ18_init_0 : decode cJ18_init 0 = .ok (.aload_n 0, 1) := dk_42 (dk_at dksJ18_init_0 0 rfl rfl)
theorem dJ18_init_1 : decode cJ18_init 1 = .ok (.aload_n 1, 1) := dk_43 (dk_at dksJ18_init_0 1 rfl rfl)
theorem dJ18_init_2 : decode cJ18_init 2 = .ok (.invokespecial 7, 3) := dk_183 0 7 (dk_at dksJ18_init_0 2 rfl rfl)
theorem dJ18_init_5 : decode cJ18_init 5 = .ok (.return_, 1) := dk_177 (dk_at dksJ18_init_0 5 rfl rfl)
theorem q179 : (Jvm.Cond.initialized "java/lang/ArrayIndexOutOfBoundsException") ∈ lw_all := lw_g (lw_at lw_m1 40 rfl) rfl
theorem q632 : (Jvm.Cond.selects "java/lang/ArrayIndexOutOfBoundsException" ({ cls := "java/lang/Throwable", name := "fillInStackTrace", desc := "()Ljava/lang/Throwable;" } : Jvm.MethodName) ({ cls := "java/lang/Throwable", name := "fillInStackTrace", desc := "()Ljava/lang/Throwable;" } : Jvm.MethodName)) ∈ lw_all := lw_g (lw_at lw_m3 13 rfl) rfl
theorem q783 : (Jvm.Cond.selects "java/lang/ArrayIndexOutOfBoundsException" ({ cls := "java/lang/Object", name := "getClass", desc := "()Ljava/lang/Class;" } : Jvm.MethodName) ({ cls := "java/lang/Object", name := "getClass", desc := "()Ljava/lang/Class;" } : Jvm.MethodName)) ∈ lw_all := lw_g (lw_at lw_m3 164 rfl) rfl
theorem q1700 : (Jvm.Cond.instantiable "java/lang/ArrayIndexOutOfBoundsException" (6 : Nat)) ∈ lw_all := lw_g (lw_at lw_m7 121 rfl) rfl
theorem q1701 : (Jvm.Cond.instanceMethod ({ cls := "java/lang/ArrayIndexOutOfBoundsException", name := "<init>", desc := "(Ljava/lang/String;)V" } : Jvm.MethodName)) ∈ lw_all := lw_g (lw_at lw_m7 122 rfl) rfl
theorem q1702 : (Jvm.Cond.code ({ cls := "java/lang/ArrayIndexOutOfBoundsException", name := "<init>", desc := "(Ljava/lang/String;)V" } : Jvm.MethodName) prog_22_method_2_code (2 : Nat) (Option.none : Option Jvm.ClassFile.FieldType)) ∈ lw_all := lw_g (lw_at lw_m7 123 rfl) rfl
theorem q1703 : (Jvm.Cond.methodLink "java/lang/ArrayIndexOutOfBoundsException" (7 : Nat) ({ cls := "java/lang/IndexOutOfBoundsException", name := "<init>", desc := "(Ljava/lang/String;)V" } : Jvm.MethodName)) ∈ lw_all := lw_g (lw_at lw_m7 124 rfl) rfl
theorem q1707 : (Jvm.Cond.lays "java/lang/ArrayIndexOutOfBoundsException" "java/lang/Throwable" "backtrace" "Ljava/lang/Object;") ∈ lw_all := lw_g (lw_at lw_m7 128 rfl) rfl
theorem q1708 : (Jvm.Cond.lays "java/lang/ArrayIndexOutOfBoundsException" "java/lang/Throwable" "detailMessage" "Ljava/lang/String;") ∈ lw_all := lw_g (lw_at lw_m7 129 rfl) rfl
theorem q1709 : (Jvm.Cond.lays "java/lang/ArrayIndexOutOfBoundsException" "java/lang/Throwable" "cause" "Ljava/lang/Throwable;") ∈ lw_all := lw_g (lw_at lw_m7 130 rfl) rfl
theorem q1710 : (Jvm.Cond.lays "java/lang/ArrayIndexOutOfBoundsException" "java/lang/Throwable" "stackTrace" "[Ljava/lang/StackTraceElement;") ∈ lw_all := lw_g (lw_at lw_m7 131 rfl) rfl
theorem q1711 : (Jvm.Cond.lays "java/lang/ArrayIndexOutOfBoundsException" "java/lang/Throwable" "depth" "I") ∈ lw_all := lw_g (lw_at lw_m7 132 rfl) rfl
theorem q1712 : (Jvm.Cond.lays "java/lang/ArrayIndexOutOfBoundsException" "java/lang/Throwable" "suppressedExceptions" "Ljava/util/List;") ∈ lw_all := lw_g (lw_at lw_m7 133 rfl) rfl
theorem q1713 : (Jvm.Cond.superclass "java/lang/ArrayIndexOutOfBoundsException" "java/lang/IndexOutOfBoundsException") ∈ lw_all := lw_g (lw_at lw_m7 134 rfl) rfl
theorem q1714 : (Jvm.Cond.castable "java/lang/ArrayIndexOutOfBoundsException" "java/lang/ArrayIndexOutOfBoundsException") ∈ lw_tbl := lw_at lw_m7 135 rfl
theorem q1717 : (Jvm.Cond.selects "java/lang/ArrayIndexOutOfBoundsException" ({ cls := "java/lang/Throwable", name := "fillInStackTrace", desc := "(I)Ljava/lang/Throwable;" } : Jvm.MethodName) ({ cls := "java/lang/Throwable", name := "fillInStackTrace", desc := "(I)Ljava/lang/Throwable;" } : Jvm.MethodName)) ∈ lw_all := lw_g (lw_at lw_m7 138 rfl) rfl
theorem q2533 : (Jvm.Cond.castable "java/lang/ArrayIndexOutOfBoundsException" "java/lang/IndexOutOfBoundsException") ∈ lw_tbl := lw_at lw_m10 234 rfl
theorem q2558 : (Jvm.Cond.castable "java/lang/ArrayIndexOutOfBoundsException" "java/lang/Object") ∈ lw_tbl := lw_at lw_m11 19 rfl
theorem in_J18 : ∀ w ∈ wsJ180, w ∈ lw_all := lw_in wsJ180 [1707, 1708, 1709, 1710, 1711, 1712] (by decide +kernel) (by decide +kernel)

/-! java/lang/ArrayStoreException -/
set_option maxRecDepth 100000
def RJ19 : String := "java/lang/ArrayStoreException"
def TJ19 : u_T := fun k => match k with
  | 0 => ("java/lang/Throwable", "backtrace", "Ljava/lang/Object;", false)
  | 1 => ("java/lang/Throwable", "detailMessage", "Ljava/lang/String;", false)
  | 2 => ("java/lang/Throwable", "cause", "Ljava/lang/Throwable;", false)
  | 3 => ("java/lang/Throwable", "stackTrace", "[Ljava/lang/StackTraceElement;", false)
  | 4 => ("java/lang/Throwable", "depth", "I", false)
  | _ => ("java/lang/Throwable", "suppressedExceptions", "Ljava/util/List;", false)
def tyJ19 : Nat → FieldType := fun k => match k with
  | 0 => .object "java/lang/Object"
  | 1 => .object "java/lang/String"
  | 2 => .object "java/lang/Throwable"
  | 3 => .array (.object "java/lang/StackTraceElement")
  | 4 => .int
  | _ => .object "java/util/List"
abbrev wsJ190 : List Cond := u_ws RJ19 TJ19 6
theorem nmJ19 : ∀ a, a < 6 → ∀ b, b < 6 → a ≠ b → (TJ19 a).2.1 ≠ (TJ19 b).2.1 := by decide +kernel
theorem tyJ19_ok : ∀ k, k < 6 → parseFieldDescriptor (TJ19 k).2.2.1 = some (tyJ19 k) := by decide +kernel
abbrev cJ19_init : ByteArray := prog_23_method_2_code
def yJ19_init : MethodName := ⟨RJ19, "<init>", "(Ljava/lang/String;)V"⟩
def dkwJ19_init_0 : List UInt8 := [42, 43, 183, 0, 7, 177]
abbrev dktJ19_init_0 : List UInt8 := dkwJ19_init_0 ++ []
theorem dksJ19_init_0 : cJ19_init.data.toList.drop 0 = dktJ19_init_0 := by decide +kernel
theorem dJ19_init_0 : decode cJ19_init 0 = .ok (.aload_n 0, 1) := dk_42 (dk_at dksJ19_init_0 0 rfl rfl)
theorem dJ19_init_1 : decode cJ19_init 1 = .ok (.aload_n 1, 1) := dk_43 (dk_at dksJ19_init_0 1 rfl rfl)
theorem dJ19_init_2 : decode cJ19_init 2 = .ok (.invokespecial 7, 3) := dk_183 0 7 (dk_at dksJ19_init_0 2 rfl rfl)
theorem dJ19_init_5 : decode cJ19_init 5 = .ok (.return_, 1) := dk_177 (dk_at dksJ19_init_0 5 rfl rfl)
theorem q180 : (Jvm.Cond.initialized "java/lang/ArrayStoreException") ∈ lw_all := lw_g (lw_at lw_m1 41 rfl) rfl
theorem q633 : (Jvm.Cond.selects "java/lang/ArrayStoreException" ({ cls := "java/lang/Throwable", name := "fillInStackTrace", desc := "()Ljava/lang/Throwable;" } : Jvm.MethodName) ({ cls := "java/lang/Throwable", name := "fillInStackTrace", desc := "()Ljava/lang/Throwable;" } : Jvm.MethodName)) ∈ lw_all := lw_g (lw_at lw_m3 14 rfl) rfl
theorem q784 : (Jvm.Cond.selects "java/lang/ArrayStoreException" ({ cls := "java/lang/Object", name := "getClass", desc := "()Ljava/lang/Class;" } : Jvm.MethodName) ({ cls := "java/lang/Object", name := "getClass", desc := "()Ljava/lang/Class;" } : Jvm.MethodName)) ∈ lw_all := lw_g (lw_at lw_m3 165 rfl) rfl
theorem q1727 : (Jvm.Cond.instantiable "java/lang/ArrayStoreException" (6 : Nat)) ∈ lw_all := lw_g (lw_at lw_m7 148 rfl) rfl
theorem q1728 : (Jvm.Cond.instanceMethod ({ cls := "java/lang/ArrayStoreException", name := "<init>", desc := "(Ljava/lang/String;)V" } : Jvm.MethodName)) ∈ lw_all := lw_g (lw_at lw_m7 149 rfl) rfl
theorem q1729 : (Jvm.Cond.code ({ cls := "java/lang/ArrayStoreException", name := "<init>", desc := "(Ljava/lang/String;)V" } : Jvm.MethodName) prog_23_method_2_code (2 : Nat) (Option.none : Option Jvm.ClassFile.FieldType)) ∈ lw_all := lw_g (lw_at lw_m7 150 rfl) rfl
theorem q1730 : (Jvm.Cond.methodLink "java/lang/ArrayStoreException" (7 : Nat) ({ cls := "java/lang/RuntimeException", name := "<init>", desc := "(Ljava/lang/String;)V" } : Jvm.MethodName)) ∈ lw_all := lw_g (lw_at lw_m7 151 rfl) rfl
theorem q1731 : (Jvm.Cond.lays "java/lang/ArrayStoreException" "java/lang/Throwable" "backtrace" "Ljava/lang/Object;") ∈ lw_all := lw_g (lw_at lw_m7 152 rfl) rfl
theorem q1732 : (Jvm.Cond.lays "java/lang/ArrayStoreException" "java/lang/Throwable" "detailMessage" "Ljava/lang/String;") ∈ lw_all := lw_g (lw_at lw_m7 153 rfl) rfl
theorem q1733 : (Jvm.Cond.lays "java/lang/ArrayStoreException" "java/lang/Throwable" "cause" "Ljava/lang/Throwable;") ∈ lw_all := lw_g (lw_at lw_m7 154 rfl) rfl
theorem q1734 : (Jvm.Cond.lays "java/lang/ArrayStoreException" "java/lang/Throwable" "stackTrace" "[Ljava/lang/StackTraceElement;") ∈ lw_all := lw_g (lw_at lw_m7 155 rfl) rfl
theorem q1735 : (Jvm.Cond.lays "java/lang/ArrayStoreException" "java/lang/Throwable" "depth" "I") ∈ lw_all := lw_g (lw_at lw_m7 156 rfl) rfl
theorem q1736 : (Jvm.Cond.lays "java/lang/ArrayStoreException" "java/lang/Throwable" "suppressedExceptions" "Ljava/util/List;") ∈ lw_all := lw_g (lw_at lw_m7 157 rfl) rfl
theorem q1737 : (Jvm.Cond.superclass "java/lang/ArrayStoreException" "java/lang/RuntimeException") ∈ lw_all := lw_g (lw_at lw_m7 158 rfl) rfl
theorem q1738 : (Jvm.Cond.castable "java/lang/ArrayStoreException" "java/lang/ArrayStoreException") ∈ lw_tbl := lw_at lw_m7 159 rfl
theorem q1739 : (Jvm.Cond.selects "java/lang/ArrayStoreException" ({ cls := "java/lang/Throwable", name := "fillInStackTrace", desc := "(I)Ljava/lang/Throwable;" } : Jvm.MethodName) ({ cls := "java/lang/Throwable", name := "fillInStackTrace", desc := "(I)Ljava/lang/Throwable;" } : Jvm.MethodName)) ∈ lw_all := lw_g (lw_at lw_m7 160 rfl) rfl
theorem q2559 : (Jvm.Cond.castable "java/lang/ArrayStoreException" "java/lang/Object") ∈ lw_tbl := lw_at lw_m11 20 rfl
theorem in_J19 : ∀ w ∈ wsJ190, w ∈ lw_all := lw_in wsJ190 [1731, 1732, 1733, 1734, 1735, 1736] (by decide +kernel) (by decide +kernel)

/-! java/util/ArrayList -/
set_option maxRecDepth 100000
def RJ2 : String := "java/util/ArrayList"
def TJ2 : u_T := fun k => match k with
  | 0 => ("java/util/AbstractList", "modCount", "I", false)
  | 1 => ("java/util/ArrayList", "elementData", "[Ljava/lang/Object;", false)
  | _ => ("java/util/ArrayList", "size", "I", false)
def tyJ2 : Nat → FieldType := fun k => match k with
  | 0 => .int
  | 1 => .array (.object "java/lang/Object")
  | _ => .int
abbrev wsJ20 : List Cond := u_ws RJ2 TJ2 3
theorem nmJ2 : ∀ a, a < 3 → ∀ b, b < 3 → a ≠ b → (TJ2 a).2.1 ≠ (TJ2 b).2.1 := by decide +kernel
theorem tyJ2_ok : ∀ k, k < 3 → parseFieldDescriptor (TJ2 k).2.2.1 = some (tyJ2 k) := by decide +kernel
abbrev cJ2_init : ByteArray := prog_41_method_1_code
def yJ2_init : MethodName := ⟨RJ2, "<init>", "(I)V"⟩
def dkwJ2_init_2 : List UInt8 := [182, 0, 25, 27, 182, 0, 29, 182, 0, 32, 183, 0, 36, 191, 177]
abbrev dktJ2_init_2 : List UInt8 := dkwJ2_init_2 ++ []
def dkwJ2_init_1 : List UInt8 := [178, 0, 15, 181, 0, 9, 167, 0, 30, 187, 0, 18, 89, 187, 0, 20, 89, 183, 0, 22, 18, 23]
abbrev dktJ2_init_1 : List UInt8 := dkwJ2_init_1 ++ dktJ2_init_2
def dkwJ2_init_0 : List UInt8 := [42, 183, 0, 1, 27, 158, 0, 14, 42, 27, 189, 0, 7, 181, 0, 9, 167, 0, 44, 27, 154, 0, 13, 42]
abbrev dktJ2_init_0 : List UInt8 := dkwJ2_init_0 ++ dktJ2_init_1
theorem dksJ2_init_0 : cJ2_init.data.toList.drop 0 = dktJ2_init_0 := by decide +kernel
theorem dksJ2_init_1 : cJ2_init.data.toList.drop 24 = dktJ2_init_1 := dk_seg dksJ2_init_0 24 rfl rfl
theorem dksJ2_init_2 : cJ2_init.data.toList.drop 46 = dktJ2_init_2 := dk_seg dksJ2_init_1 22 rfl rfl
theorem dJ2_init_0 : decode cJ2_init 0 = .ok (.aload_n 0, 1) := dk_42 (dk_at dksJ2_init_0 0 rfl rfl)
theorem dJ2_init_1 : decode cJ2_init 1 = .ok (.invokespecial 1, 3) := dk_183 0 1 (dk_at dksJ2_init_0 1 rfl rfl)
theorem dJ2_init_4 : decode cJ2_init 4 = .ok (.iload_n 1, 1) := dk_27 (dk_at dksJ2_init_0 4 rfl rfl)
theorem dJ2_init_5 : decode cJ2_init 5 = .ok (.ifCond .le 14, 3) := dk_158 0 14 (dk_at dksJ2_init_0 5 rfl rfl)
theorem dJ2_init_8 : decode cJ2_init 8 = .ok (.aload_n 0, 1) := dk_42 (dk_at dksJ2_init_0 8 rfl rfl)
theorem dJ2_init_9 : decode cJ2_init 9 = .ok (.iload_n 1, 1) := dk_27 (dk_at dksJ2_init_0 9 rfl rfl)
theorem dJ2_init_10 : decode cJ2_init 10 = .ok (.anewarray 7, 3) := dk_189 0 7 (dk_at dksJ2_init_0 10 rfl rfl)
theorem dJ2_init_13 : decode cJ2_init 13 = .ok (.putfield 9, 3) := dk_181 0 9 (dk_at dksJ2_init_0 13 rfl rfl)
theorem dJ2_init_16 : decode cJ2_init 16 = .ok (.goto 44, 3) := dk_167 0 44 (dk_at dksJ2_init_0 16 rfl rfl)
theorem dJ2_init_19 : decode cJ2_init 19 = .ok (.iload_n 1, 1) := dk_27 (dk_at dksJ2_init_0 19 rfl rfl)
theorem dJ2_init_20 : decode cJ2_init 20 = .ok (.ifCond .ne 13, 3) := dk_154 0 13 (dk_at dksJ2_init_0 20 rfl rfl)
theorem dJ2_init_23 : decode cJ2_init 23 = .ok (.aload_n 0, 1) := dk_42 (dk_at dksJ2_init_0 23 rfl rfl)
theorem dJ2_init_24 : decode cJ2_init 24 = .ok (.getstatic 15, 3) := dk_178 0 15 (dk_at dksJ2_init_1 0 rfl rfl)
theorem dJ2_init_27 : decode cJ2_init 27 = .ok (.putfield 9, 3) := dk_181 0 9 (dk_at dksJ2_init_1 3 rfl rfl)
theorem dJ2_init_30 : decode cJ2_init 30 = .ok (.goto 30, 3) := dk_167 0 30 (dk_at dksJ2_init_1 6 rfl rfl)
theorem dJ2_init_33 : decode cJ2_init 33 = .ok (.new 18, 3) := dk_187 0 18 (dk_at dksJ2_init_1 9 rfl rfl)
theorem dJ2_init_36 : decode cJ2_init 36 = .ok (.dup, 1) := dk_89 (dk_at dksJ2_init_1 12 rfl rfl)
theorem dJ2_init_37 : decode cJ2_init 37 = .ok (.new 20, 3) := dk_187 0 20 (dk_at dksJ2_init_1 13 rfl rfl)
theorem dJ2_init_40 : decode cJ2_init 40 = .ok (.dup, 1) := dk_89 (dk_at dksJ2_init_1 16 rfl rfl)
theorem dJ2_init_41 : decode cJ2_init 41 = .ok (.invokespecial 22, 3) := dk_183 0 22 (dk_at dksJ2_init_1 17 rfl rfl)
theorem dJ2_init_44 : decode cJ2_init 44 = .ok (.ldc 23, 2) := dk_18 23 (dk_at dksJ2_init_1 20 rfl rfl)
theorem dJ2_init_46 : decode cJ2_init 46 = .ok (.invokevirtual 25, 3) := dk_182 0 25 (dk_at dksJ2_init_2 0 rfl rfl)
theorem dJ2_init_49 : decode cJ2_init 49 = .ok (.iload_n 1, 1) := dk_27 (dk_at dksJ2_init_2 3 rfl rfl)
theorem dJ2_init_50 : decode cJ2_init 50 = .ok (.invokevirtual 29, 3) := dk_182 0 29 (dk_at dksJ2_init_2 4 rfl rfl)
theorem dJ2_init_53 : decode cJ2_init 53 = .ok (.invokevirtual 32, 3) := dk_182 0 32 (dk_at dksJ2_init_2 7 rfl rfl)
theorem dJ2_init_56 : decode cJ2_init 56 = .ok (.invokespecial 36, 3) := dk_183 0 36 (dk_at dksJ2_init_2 10 rfl rfl)
theorem dJ2_init_59 : decode cJ2_init 59 = .ok (.athrow, 1) := dk_191 (dk_at dksJ2_init_2 13 rfl rfl)
theorem dJ2_init_60 : decode cJ2_init 60 = .ok (.return_, 1) := dk_177 (dk_at dksJ2_init_2 14 rfl rfl)
abbrev cJ2_size : ByteArray := prog_41_method_8_code
def yJ2_size : MethodName := ⟨RJ2, "size", "()I"⟩
theorem dJ2_size_0 : decode cJ2_size 0 = .ok (.aload_n 0, 1) := by decide +kernel
theorem dJ2_size_1 : decode cJ2_size 1 = .ok (.getfield 48, 3) := by decide +kernel
theorem dJ2_size_4 : decode cJ2_size 4 = .ok (.ireturn, 1) := by decide +kernel
abbrev cJ2_add : ByteArray := prog_41_method_25_code
def yJ2_add : MethodName := ⟨RJ2, "add", "(Ljava/lang/Object;)Z"⟩
def dkwJ2_add_1 : List UInt8 := [172]
abbrev dktJ2_add_1 : List UInt8 := dkwJ2_add_1 ++ []
def dkwJ2_add_0 : List UInt8 := [42, 89, 180, 0, 63, 4, 96, 181, 0, 63, 42, 43, 42, 180, 0, 9, 42, 180, 0, 48, 182, 0, 131, 4]
abbrev dktJ2_add_0 : List UInt8 := dkwJ2_add_0 ++ dktJ2_add_1
theorem dksJ2_add_0 : cJ2_add.data.toList.drop 0 = dktJ2_add_0 := by decide +kernel
theorem dksJ2_add_1 : cJ2_add.data.toList.drop 24 = dktJ2_add_1 := dk_seg dksJ2_add_0 24 rfl rfl
theorem dJ2_add_0 : decode cJ2_add 0 = .ok (.aload_n 0, 1) := dk_42 (dk_at dksJ2_add_0 0 rfl rfl)
theorem dJ2_add_1 : decode cJ2_add 1 = .ok (.dup, 1) := dk_89 (dk_at dksJ2_add_0 1 rfl rfl)
theorem dJ2_add_2 : decode cJ2_add 2 = .ok (.getfield 63, 3) := dk_180 0 63 (dk_at dksJ2_add_0 2 rfl rfl)
theorem dJ2_add_5 : decode cJ2_add 5 = .ok (.iconst 1, 1) := dk_4 (dk_at dksJ2_add_0 5 rfl rfl)
theorem dJ2_add_6 : decode cJ2_add 6 = .ok (.iadd, 1) := dk_96 (dk_at dksJ2_add_0 6 rfl rfl)
theorem dJ2_add_7 : decode cJ2_add 7 = .ok (.putfield 63, 3) := dk_181 0 63 (dk_at dksJ2_add_0 7 rfl rfl)
theorem dJ2_add_10 : decode cJ2_add 10 = .ok (.aload_n 0, 1) := dk_42 (dk_at dksJ2_add_0 10 rfl rfl)
theorem dJ2_add_11 : decode cJ2_add 11 = .ok (.aload_n 1, 1) := dk_43 (dk_at dksJ2_add_0 11 rfl rfl)
theorem dJ2_add_12 : decode cJ2_add 12 = .ok (.aload_n 0, 1) := dk_42 (dk_at dksJ2_add_0 12 rfl rfl)
theorem dJ2_add_13 : decode cJ2_add 13 = .ok (.getfield 9, 3) := dk_180 0 9 (dk_at dksJ2_add_0 13 rfl rfl)
theorem dJ2_add_16 : decode cJ2_add 16 = .ok (.aload_n 0, 1) := dk_42 (dk_at dksJ2_add_0 16 rfl rfl)
theorem dJ2_add_17 : decode cJ2_add 17 = .ok (.getfield 48, 3) := dk_180 0 48 (dk_at dksJ2_add_0 17 rfl rfl)
theorem dJ2_add_20 : decode cJ2_add 20 = .ok (.invokevirtual 131, 3) := dk_182 0 131 (dk_at dksJ2_add_0 20 rfl rfl)
theorem dJ2_add_23 : decode cJ2_add 23 = .ok (.iconst 1, 1) := dk_4 (dk_at dksJ2_add_0 23 rfl rfl)
theorem dJ2_add_24 : decode cJ2_add 24 = .ok (.ireturn, 1) := dk_172 (dk_at dksJ2_add_1 0 rfl rfl)
abbrev cJ2_add_2 : ByteArray := prog_41_method_24_code
def yJ2_add_2 : MethodName := ⟨RJ2, "add", "(Ljava/lang/Object;[Ljava/lang/Object;I)V"⟩
def dkwJ2_add_2_0 : List UInt8 := [29, 44, 190, 160, 0, 8, 42, 182, 0, 129, 77, 44, 29, 43, 83, 42, 29, 4, 96, 181, 0, 48, 177]
abbrev dktJ2_add_2_0 : List UInt8 := dkwJ2_add_2_0 ++ []
theorem dksJ2_add_2_0 : cJ2_add_2.data.toList.drop 0 = dktJ2_add_2_0 := by decide +kernel
theorem dJ2_add_2_0 : decode cJ2_add_2 0 = .ok (.iload_n 3, 1) := dk_29 (dk_at dksJ2_add_2_0 0 rfl rfl)
theorem dJ2_add_2_1 : decode cJ2_add_2 1 = .ok (.aload_n 2, 1) := dk_44 (dk_at dksJ2_add_2_0 1 rfl rfl)
theorem dJ2_add_2_2 : decode cJ2_add_2 2 = .ok (.arraylength, 1) := dk_190 (dk_at dksJ2_add_2_0 2 rfl rfl)
theorem dJ2_add_2_3 : decode cJ2_add_2 3 = .ok (.if_icmp .ne 8, 3) := dk_160 0 8 (dk_at dksJ2_add_2_0 3 rfl rfl)
theorem dJ2_add_2_6 : decode cJ2_add_2 6 = .ok (.aload_n 0, 1) := dk_42 (dk_at dksJ2_add_2_0 6 rfl rfl)
theorem dJ2_add_2_7 : decode cJ2_add_2 7 = .ok (.invokevirtual 129, 3) := dk_182 0 129 (dk_at dksJ2_add_2_0 7 rfl rfl)
theorem dJ2_add_2_10 : decode cJ2_add_2 10 = .ok (.astore_n 2, 1) := dk_77 (dk_at dksJ2_add_2_0 10 rfl rfl)
theorem dJ2_add_2_11 : decode cJ2_add_2 11 = .ok (.aload_n 2, 1) := dk_44 (dk_at dksJ2_add_2_0 11 rfl rfl)
theorem dJ2_add_2_12 : decode cJ2_add_2 12 = .ok (.iload_n 3, 1) := dk_29 (dk_at dksJ2_add_2_0 12 rfl rfl)
theorem dJ2_add_2_13 : decode cJ2_add_2 13 = .ok (.aload_n 1, 1) := dk_43 (dk_at dksJ2_add_2_0 13 rfl rfl)
theorem dJ2_add_2_14 : decode cJ2_add_2 14 = .ok (.aastore, 1) := dk_83 (dk_at dksJ2_add_2_0 14 rfl rfl)
theorem dJ2_add_2_15 : decode cJ2_add_2 15 = .ok (.aload_n 0, 1) := dk_42 (dk_at dksJ2_add_2_0 15 rfl rfl)
theorem dJ2_add_2_16 : decode cJ2_add_2 16 = .ok (.iload_n 3, 1) := dk_29 (dk_at dksJ2_add_2_0 16 rfl rfl)
theorem dJ2_add_2_17 : decode cJ2_add_2 17 = .ok (.iconst 1, 1) := dk_4 (dk_at dksJ2_add_2_0 17 rfl rfl)
theorem dJ2_add_2_18 : decode cJ2_add_2 18 = .ok (.iadd, 1) := dk_96 (dk_at dksJ2_add_2_0 18 rfl rfl)
theorem dJ2_add_2_19 : decode cJ2_add_2 19 = .ok (.putfield 48, 3) := dk_181 0 48 (dk_at dksJ2_add_2_0 19 rfl rfl)
theorem dJ2_add_2_22 : decode cJ2_add_2 22 = .ok (.return_, 1) := dk_177 (dk_at dksJ2_add_2_0 22 rfl rfl)
abbrev cJ2_grow : ByteArray := prog_41_method_7_code
def yJ2_grow : MethodName := ⟨RJ2, "grow", "()[Ljava/lang/Object;"⟩
def dkwJ2_grow_0 : List UInt8 := [42, 42, 180, 0, 48, 4, 96, 182, 0, 69, 176]
abbrev dktJ2_grow_0 : List UInt8 := dkwJ2_grow_0 ++ []
theorem dksJ2_grow_0 : cJ2_grow.data.toList.drop 0 = dktJ2_grow_0 := by decide +kernel
theorem dJ2_grow_0 : decode cJ2_grow 0 = .ok (.aload_n 0, 1) := dk_42 (dk_at dksJ2_grow_0 0 rfl rfl)
theorem dJ2_grow_1 : decode cJ2_grow 1 = .ok (.aload_n 0, 1) := dk_42 (dk_at dksJ2_grow_0 1 rfl rfl)
theorem dJ2_grow_2 : decode cJ2_grow 2 = .ok (.getfield 48, 3) := dk_180 0 48 (dk_at dksJ2_grow_0 2 rfl rfl)
theorem dJ2_grow_5 : decode cJ2_grow 5 = .ok (.iconst 1, 1) := dk_4 (dk_at dksJ2_grow_0 5 rfl rfl)
theorem dJ2_grow_6 : decode cJ2_grow 6 = .ok (.iadd, 1) := dk_96 (dk_at dksJ2_grow_0 6 rfl rfl)
theorem dJ2_grow_7 : decode cJ2_grow 7 = .ok (.invokevirtual 69, 3) := dk_182 0 69 (dk_at dksJ2_grow_0 7 rfl rfl)
theorem dJ2_grow_10 : decode cJ2_grow 10 = .ok (.areturn, 1) := dk_176 (dk_at dksJ2_grow_0 10 rfl rfl)
abbrev cJ2_grow_2 : ByteArray := prog_41_method_6_code
def yJ2_grow_2 : MethodName := ⟨RJ2, "grow", "(I)[Ljava/lang/Object;"⟩
def dkwJ2_grow_2_2 : List UInt8 := [27, 184, 0, 79, 189, 0, 7, 90, 181, 0, 9, 176]
abbrev dktJ2_grow_2_2 : List UInt8 := dkwJ2_grow_2_2 ++ []
def dkwJ2_grow_2_1 : List UInt8 := [28, 4, 122, 184, 0, 73, 62, 42, 42, 180, 0, 9, 29, 184, 0, 66, 90, 181, 0, 9, 176, 42, 16, 10]
abbrev dktJ2_grow_2_1 : List UInt8 := dkwJ2_grow_2_1 ++ dktJ2_grow_2_2
def dkwJ2_grow_2_0 : List UInt8 := [42, 180, 0, 9, 190, 61, 28, 157, 0, 13, 42, 180, 0, 9, 178, 0, 39, 165, 0, 28, 28, 27, 28, 100]
abbrev dktJ2_grow_2_0 : List UInt8 := dkwJ2_grow_2_0 ++ dktJ2_grow_2_1
theorem dksJ2_grow_2_0 : cJ2_grow_2.data.toList.drop 0 = dktJ2_grow_2_0 := by decide +kernel
theorem dksJ2_grow_2_1 : cJ2_grow_2.data.toList.drop 24 = dktJ2_grow_2_1 := dk_seg dksJ2_grow_2_0 24 rfl rfl
theorem dksJ2_grow_2_2 : cJ2_grow_2.data.toList.drop 48 = dktJ2_grow_2_2 := dk_seg dksJ2_grow_2_1 24 rfl rfl
theorem dJ2_grow_2_0 : decode cJ2_grow_2 0 = .ok (.aload_n 0, 1) := dk_42 (dk_at dksJ2_grow_2_0 0 rfl rfl)
theorem dJ2_grow_2_1 : decode cJ2_grow_2 1 = .ok (.getfield 9, 3) := dk_180 0 9 (dk_at dksJ2_grow_2_0 1 rfl rfl)
theorem dJ2_grow_2_4 : decode cJ2_grow_2 4 = .ok (.arraylength, 1) := dk_190 (dk_at dksJ2_grow_2_0 4 rfl rfl)
theorem dJ2_grow_2_5 : decode cJ2_grow_2 5 = .ok (.istore_n 2, 1) := dk_61 (dk_at dksJ2_grow_2_0 5 rfl rfl)
theorem dJ2_grow_2_6 : decode cJ2_grow_2 6 = .ok (.iload_n 2, 1) := dk_28 (dk_at dksJ2_grow_2_0 6 rfl rfl)
theorem dJ2_grow_2_7 : decode cJ2_grow_2 7 = .ok (.ifCond .gt 13, 3) := dk_157 0 13 (dk_at dksJ2_grow_2_0 7 rfl rfl)
theorem dJ2_grow_2_10 : decode cJ2_grow_2 10 = .ok (.aload_n 0, 1) := dk_42 (dk_at dksJ2_grow_2_0 10 rfl rfl)
theorem dJ2_grow_2_11 : decode cJ2_grow_2 11 = .ok (.getfield 9, 3) := dk_180 0 9 (dk_at dksJ2_grow_2_0 11 rfl rfl)
theorem dJ2_grow_2_14 : decode cJ2_grow_2 14 = .ok (.getstatic 39, 3) := dk_178 0 39 (dk_at dksJ2_grow_2_0 14 rfl rfl)
theorem dJ2_grow_2_17 : decode cJ2_grow_2 17 = .ok (.if_acmp .eq 28, 3) := dk_165 0 28 (dk_at dksJ2_grow_2_0 17 rfl rfl)
theorem dJ2_grow_2_20 : decode cJ2_grow_2 20 = .ok (.iload_n 2, 1) := dk_28 (dk_at dksJ2_grow_2_0 20 rfl rfl)
theorem dJ2_grow_2_21 : decode cJ2_grow_2 21 = .ok (.iload_n 1, 1) := dk_27 (dk_at dksJ2_grow_2_0 21 rfl rfl)
theorem dJ2_grow_2_22 : decode cJ2_grow_2 22 = .ok (.iload_n 2, 1) := dk_28 (dk_at dksJ2_grow_2_0 22 rfl rfl)
theorem dJ2_grow_2_23 : decode cJ2_grow_2 23 = .ok (.isub, 1) := dk_100 (dk_at dksJ2_grow_2_0 23 rfl rfl)
theorem dJ2_grow_2_24 : decode cJ2_grow_2 24 = .ok (.iload_n 2, 1) := dk_28 (dk_at dksJ2_grow_2_1 0 rfl rfl)
theorem dJ2_grow_2_25 : decode cJ2_grow_2 25 = .ok (.iconst 1, 1) := dk_4 (dk_at dksJ2_grow_2_1 1 rfl rfl)
theorem dJ2_grow_2_26 : decode cJ2_grow_2 26 = .ok (.ishr, 1) := dk_122 (dk_at dksJ2_grow_2_1 2 rfl rfl)
theorem dJ2_grow_2_27 : decode cJ2_grow_2 27 = .ok (.invokestatic 73, 3) := dk_184 0 73 (dk_at dksJ2_grow_2_1 3 rfl rfl)
theorem dJ2_grow_2_30 : decode cJ2_grow_2 30 = .ok (.istore_n 3, 1) := dk_62 (dk_at dksJ2_grow_2_1 6 rfl rfl)
theorem dJ2_grow_2_31 : decode cJ2_grow_2 31 = .ok (.aload_n 0, 1) := dk_42 (dk_at dksJ2_grow_2_1 7 rfl rfl)
theorem dJ2_grow_2_32 : decode cJ2_grow_2 32 = .ok (.aload_n 0, 1) := dk_42 (dk_at dksJ2_grow_2_1 8 rfl rfl)
theorem dJ2_grow_2_33 : decode cJ2_grow_2 33 = .ok (.getfield 9, 3) := dk_180 0 9 (dk_at dksJ2_grow_2_1 9 rfl rfl)
theorem dJ2_grow_2_36 : decode cJ2_grow_2 36 = .ok (.iload_n 3, 1) := dk_29 (dk_at dksJ2_grow_2_1 12 rfl rfl)
theorem dJ2_grow_2_37 : decode cJ2_grow_2 37 = .ok (.invokestatic 66, 3) := dk_184 0 66 (dk_at dksJ2_grow_2_1 13 rfl rfl)
theorem dJ2_grow_2_40 : decode cJ2_grow_2 40 = .ok (.dup_x1, 1) := dk_90 (dk_at dksJ2_grow_2_1 16 rfl rfl)
theorem dJ2_grow_2_41 : decode cJ2_grow_2 41 = .ok (.putfield 9, 3) := dk_181 0 9 (dk_at dksJ2_grow_2_1 17 rfl rfl)
theorem dJ2_grow_2_44 : decode cJ2_grow_2 44 = .ok (.areturn, 1) := dk_176 (dk_at dksJ2_grow_2_1 20 rfl rfl)
theorem dJ2_grow_2_45 : decode cJ2_grow_2 45 = .ok (.aload_n 0, 1) := dk_42 (dk_at dksJ2_grow_2_1 21 rfl rfl)
theorem dJ2_grow_2_46 : decode cJ2_grow_2 46 = .ok (.bipush 10, 2) := dk_16 10 (dk_at dksJ2_grow_2_1 22 rfl rfl)
theorem dJ2_grow_2_48 : decode cJ2_grow_2 48 = .ok (.iload_n 1, 1) := dk_27 (dk_at dksJ2_grow_2_2 0 rfl rfl)
theorem dJ2_grow_2_49 : decode cJ2_grow_2 49 = .ok (.invokestatic 79, 3) := dk_184 0 79 (dk_at dksJ2_grow_2_2 1 rfl rfl)
theorem dJ2_grow_2_52 : decode cJ2_grow_2 52 = .ok (.anewarray 7, 3) := dk_189 0 7 (dk_at dksJ2_grow_2_2 4 rfl rfl)
theorem dJ2_grow_2_55 : decode cJ2_grow_2 55 = .ok (.dup_x1, 1) := dk_90 (dk_at dksJ2_grow_2_2 7 rfl rfl)
theorem dJ2_grow_2_56 : decode cJ2_grow_2 56 = .ok (.putfield 9, 3) := dk_181 0 9 (dk_at dksJ2_grow_2_2 8 rfl rfl)
theorem dJ2_grow_2_59 : decode cJ2_grow_2 59 = .ok (.areturn, 1) := dk_176 (dk_at dksJ2_grow_2_2 11 rfl rfl)
abbrev cJ2_get : ByteArray := prog_41_method_20_code
def yJ2_get : MethodName := ⟨RJ2, "get", "(I)Ljava/lang/Object;"⟩
def dkwJ2_get_0 : List UInt8 := [27, 42, 180, 0, 48, 184, 0, 118, 87, 42, 27, 182, 0, 123, 176]
abbrev dktJ2_get_0 : List UInt8 := dkwJ2_get_0 ++ []
theorem dksJ2_get_0 : cJ2_get.data.toList.drop 0 = dktJ2_get_0 := by decide +kernel
theorem dJ2_get_0 : decode cJ2_get 0 = .ok (.iload_n 1, 1) := dk_27 (dk_at dksJ2_get_0 0 rfl rfl)
theorem dJ2_get_1 : decode cJ2_get 1 = .ok (.aload_n 0, 1) := dk_42 (dk_at dksJ2_get_0 1 rfl rfl)
theorem dJ2_get_2 : decode cJ2_get 2 = .ok (.getfield 48, 3) := dk_180 0 48 (dk_at dksJ2_get_0 2 rfl rfl)
theorem dJ2_get_5 : decode cJ2_get 5 = .ok (.invokestatic 118, 3) := dk_184 0 118 (dk_at dksJ2_get_0 5 rfl rfl)
theorem dJ2_get_8 : decode cJ2_get 8 = .ok (.pop, 1) := dk_87 (dk_at dksJ2_get_0 8 rfl rfl)
theorem dJ2_get_9 : decode cJ2_get 9 = .ok (.aload_n 0, 1) := dk_42 (dk_at dksJ2_get_0 9 rfl rfl)
theorem dJ2_get_10 : decode cJ2_get 10 = .ok (.iload_n 1, 1) := dk_27 (dk_at dksJ2_get_0 10 rfl rfl)
theorem dJ2_get_11 : decode cJ2_get 11 = .ok (.invokevirtual 123, 3) := dk_182 0 123 (dk_at dksJ2_get_0 11 rfl rfl)
theorem dJ2_get_14 : decode cJ2_get 14 = .ok (.areturn, 1) := dk_176 (dk_at dksJ2_get_0 14 rfl rfl)
abbrev cJ2_elementData : ByteArray := prog_41_method_18_code
def yJ2_elementData : MethodName := ⟨RJ2, "elementData", "(I)Ljava/lang/Object;"⟩
def dkwJ2_elementData_0 : List UInt8 := [42, 180, 0, 9, 27, 50, 176]
abbrev dktJ2_elementData_0 : List UInt8 := dkwJ2_elementData_0 ++ []
theorem dksJ2_elementData_0 : cJ2_elementData.data.toList.drop 0 = dktJ2_elementData_0 := by decide +kernel
theorem dJ2_elementData_0 : decode cJ2_elementData 0 = .ok (.aload_n 0, 1) := dk_42 (dk_at dksJ2_elementData_0 0 rfl rfl)
theorem dJ2_elementData_1 : decode cJ2_elementData 1 = .ok (.getfield 9, 3) := dk_180 0 9 (dk_at dksJ2_elementData_0 1 rfl rfl)
theorem dJ2_elementData_4 : decode cJ2_elementData 4 = .ok (.iload_n 1, 1) := dk_27 (dk_at dksJ2_elementData_0 4 rfl rfl)
theorem dJ2_elementData_5 : decode cJ2_elementData 5 = .ok (.aaload, 1) := dk_50 (dk_at dksJ2_elementData_0 5 rfl rfl)
theorem dJ2_elementData_6 : decode cJ2_elementData 6 = .ok (.areturn, 1) := dk_176 (dk_at dksJ2_elementData_0 6 rfl rfl)
abbrev cJ2_addAll : ByteArray := prog_41_method_41_code
def yJ2_addAll : MethodName := ⟨RJ2, "addAll", "(Ljava/util/Collection;)Z"⟩
def dkwJ2_addAll_3 : List UInt8 := [181, 0, 48, 4, 172]
abbrev dktJ2_addAll_3 : List UInt8 := dkwJ2_addAll_3 ++ []
def dkwJ2_addAll_2 : List UInt8 := [21, 5, 29, 96, 182, 0, 69, 58, 4, 44, 3, 25, 4, 21, 5, 29, 184, 0, 112, 42, 21, 5, 29, 96]
abbrev dktJ2_addAll_2 : List UInt8 := dkwJ2_addAll_2 ++ dktJ2_addAll_3
def dkwJ2_addAll_1 : List UInt8 := [3, 172, 29, 42, 180, 0, 9, 89, 58, 4, 190, 42, 180, 0, 48, 89, 54, 5, 100, 164, 0, 13, 42]
abbrev dktJ2_addAll_1 : List UInt8 := dkwJ2_addAll_1 ++ dktJ2_addAll_2
def dkwJ2_addAll_0 : List UInt8 := [43, 185, 0, 42, 1, 0, 77, 42, 89, 180, 0, 63, 4, 96, 181, 0, 63, 44, 190, 62, 29, 154, 0, 5]
abbrev dktJ2_addAll_0 : List UInt8 := dkwJ2_addAll_0 ++ dktJ2_addAll_1
theorem dksJ2_addAll_0 : cJ2_addAll.data.toList.drop 0 = dktJ2_addAll_0 := by decide +kernel
theorem dksJ2_addAll_1 : cJ2_addAll.data.toList.drop 24 = dktJ2_addAll_1 := dk_seg dksJ2_addAll_0 24 rfl rfl
theorem dksJ2_addAll_2 : cJ2_addAll.data.toList.drop 47 = dktJ2_addAll_2 := dk_seg dksJ2_addAll_1 23 rfl rfl
theorem dksJ2_addAll_3 : cJ2_addAll.data.toList.drop 71 = dktJ2_addAll_3 := dk_seg dksJ2_addAll_2 24 rfl rfl
theorem dJ2_addAll_0 : decode cJ2_addAll 0 = .ok (.aload_n 1, 1) := dk_43 (dk_at dksJ2_addAll_0 0 rfl rfl)
theorem dJ2_addAll_1 : decode cJ2_addAll 1 = .ok (.invokeinterface 42 1, 5) := by decide +kernel
theorem dJ2_addAll_6 : decode cJ2_addAll 6 = .ok (.astore_n 2, 1) := dk_77 (dk_at dksJ2_addAll_0 6 rfl rfl)
theorem dJ2_addAll_7 : decode cJ2_addAll 7 = .ok (.aload_n 0, 1) := dk_42 (dk_at dksJ2_addAll_0 7 rfl rfl)
theorem dJ2_addAll_8 : decode cJ2_addAll 8 = .ok (.dup, 1) := dk_89 (dk_at dksJ2_addAll_0 8 rfl rfl)
theorem dJ2_addAll_9 : decode cJ2_addAll 9 = .ok (.getfield 63, 3) := dk_180 0 63 (dk_at dksJ2_addAll_0 9 rfl rfl)
theorem dJ2_addAll_12 : decode cJ2_addAll 12 = .ok (.iconst 1, 1) := dk_4 (dk_at dksJ2_addAll_0 12 rfl rfl)
theorem dJ2_addAll_13 : decode cJ2_addAll 13 = .ok (.iadd, 1) := dk_96 (dk_at dksJ2_addAll_0 13 rfl rfl)
theorem dJ2_addAll_14 : decode cJ2_addAll 14 = .ok (.putfield 63, 3) := dk_181 0 63 (dk_at dksJ2_addAll_0 14 rfl rfl)
theorem dJ2_addAll_17 : decode cJ2_addAll 17 = .ok (.aload_n 2, 1) := dk_44 (dk_at dksJ2_addAll_0 17 rfl rfl)
theorem dJ2_addAll_18 : decode cJ2_addAll 18 = .ok (.arraylength, 1) := dk_190 (dk_at dksJ2_addAll_0 18 rfl rfl)
theorem dJ2_addAll_19 : decode cJ2_addAll 19 = .ok (.istore_n 3, 1) := dk_62 (dk_at dksJ2_addAll_0 19 rfl rfl)
theorem dJ2_addAll_20 : decode cJ2_addAll 20 = .ok (.iload_n 3, 1) := dk_29 (dk_at dksJ2_addAll_0 20 rfl rfl)
theorem dJ2_addAll_21 : decode cJ2_addAll 21 = .ok (.ifCond .ne 5, 3) := dk_154 0 5 (dk_at dksJ2_addAll_0 21 rfl rfl)
theorem dJ2_addAll_24 : decode cJ2_addAll 24 = .ok (.iconst 0, 1) := dk_3 (dk_at dksJ2_addAll_1 0 rfl rfl)
theorem dJ2_addAll_25 : decode cJ2_addAll 25 = .ok (.ireturn, 1) := dk_172 (dk_at dksJ2_addAll_1 1 rfl rfl)
theorem dJ2_addAll_26 : decode cJ2_addAll 26 = .ok (.iload_n 3, 1) := dk_29 (dk_at dksJ2_addAll_1 2 rfl rfl)
theorem dJ2_addAll_27 : decode cJ2_addAll 27 = .ok (.aload_n 0, 1) := dk_42 (dk_at dksJ2_addAll_1 3 rfl rfl)
theorem dJ2_addAll_28 : decode cJ2_addAll 28 = .ok (.getfield 9, 3) := dk_180 0 9 (dk_at dksJ2_addAll_1 4 rfl rfl)
theorem dJ2_addAll_31 : decode cJ2_addAll 31 = .ok (.dup, 1) := dk_89 (dk_at dksJ2_addAll_1 7 rfl rfl)
theorem dJ2_addAll_32 : decode cJ2_addAll 32 = .ok (.astore 4, 2) := dk_58 4 (dk_at dksJ2_addAll_1 8 rfl rfl)
theorem dJ2_addAll_34 : decode cJ2_addAll 34 = .ok (.arraylength, 1) := dk_190 (dk_at dksJ2_addAll_1 10 rfl rfl)
theorem dJ2_addAll_35 : decode cJ2_addAll 35 = .ok (.aload_n 0, 1) := dk_42 (dk_at dksJ2_addAll_1 11 rfl rfl)
theorem dJ2_addAll_36 : decode cJ2_addAll 36 = .ok (.getfield 48, 3) := dk_180 0 48 (dk_at dksJ2_addAll_1 12 rfl rfl)
theorem dJ2_addAll_39 : decode cJ2_addAll 39 = .ok (.dup, 1) := dk_89 (dk_at dksJ2_addAll_1 15 rfl rfl)
theorem dJ2_addAll_40 : decode cJ2_addAll 40 = .ok (.istore 5, 2) := dk_54 5 (dk_at dksJ2_addAll_1 16 rfl rfl)
theorem dJ2_addAll_42 : decode cJ2_addAll 42 = .ok (.isub, 1) := dk_100 (dk_at dksJ2_addAll_1 18 rfl rfl)
theorem dJ2_addAll_43 : decode cJ2_addAll 43 = .ok (.if_icmp .le 13, 3) := dk_164 0 13 (dk_at dksJ2_addAll_1 19 rfl rfl)
theorem dJ2_addAll_46 : decode cJ2_addAll 46 = .ok (.aload_n 0, 1) := dk_42 (dk_at dksJ2_addAll_1 22 rfl rfl)
theorem dJ2_addAll_47 : decode cJ2_addAll 47 = .ok (.iload 5, 2) := dk_21 5 (dk_at dksJ2_addAll_2 0 rfl rfl)
theorem dJ2_addAll_49 : decode cJ2_addAll 49 = .ok (.iload_n 3, 1) := dk_29 (dk_at dksJ2_addAll_2 2 rfl rfl)
theorem dJ2_addAll_50 : decode cJ2_addAll 50 = .ok (.iadd, 1) := dk_96 (dk_at dksJ2_addAll_2 3 rfl rfl)
theorem dJ2_addAll_51 : decode cJ2_addAll 51 = .ok (.invokevirtual 69, 3) := dk_182 0 69 (dk_at dksJ2_addAll_2 4 rfl rfl)
theorem dJ2_addAll_54 : decode cJ2_addAll 54 = .ok (.astore 4, 2) := dk_58 4 (dk_at dksJ2_addAll_2 7 rfl rfl)
theorem dJ2_addAll_56 : decode cJ2_addAll 56 = .ok (.aload_n 2, 1) := dk_44 (dk_at dksJ2_addAll_2 9 rfl rfl)
theorem dJ2_addAll_57 : decode cJ2_addAll 57 = .ok (.iconst 0, 1) := dk_3 (dk_at dksJ2_addAll_2 10 rfl rfl)
theorem dJ2_addAll_58 : decode cJ2_addAll 58 = .ok (.aload 4, 2) := dk_25 4 (dk_at dksJ2_addAll_2 11 rfl rfl)
theorem dJ2_addAll_60 : decode cJ2_addAll 60 = .ok (.iload 5, 2) := dk_21 5 (dk_at dksJ2_addAll_2 13 rfl rfl)
theorem dJ2_addAll_62 : decode cJ2_addAll 62 = .ok (.iload_n 3, 1) := dk_29 (dk_at dksJ2_addAll_2 15 rfl rfl)
theorem dJ2_addAll_63 : decode cJ2_addAll 63 = .ok (.invokestatic 112, 3) := dk_184 0 112 (dk_at dksJ2_addAll_2 16 rfl rfl)
theorem dJ2_addAll_66 : decode cJ2_addAll 66 = .ok (.aload_n 0, 1) := dk_42 (dk_at dksJ2_addAll_2 19 rfl rfl)
theorem dJ2_addAll_67 : decode cJ2_addAll 67 = .ok (.iload 5, 2) := dk_21 5 (dk_at dksJ2_addAll_2 20 rfl rfl)
theorem dJ2_addAll_69 : decode cJ2_addAll 69 = .ok (.iload_n 3, 1) := dk_29 (dk_at dksJ2_addAll_2 22 rfl rfl)
theorem dJ2_addAll_70 : decode cJ2_addAll 70 = .ok (.iadd, 1) := dk_96 (dk_at dksJ2_addAll_2 23 rfl rfl)
theorem dJ2_addAll_71 : decode cJ2_addAll 71 = .ok (.putfield 48, 3) := dk_181 0 48 (dk_at dksJ2_addAll_3 0 rfl rfl)
theorem dJ2_addAll_74 : decode cJ2_addAll 74 = .ok (.iconst 1, 1) := dk_4 (dk_at dksJ2_addAll_3 3 rfl rfl)
theorem dJ2_addAll_75 : decode cJ2_addAll 75 = .ok (.ireturn, 1) := dk_172 (dk_at dksJ2_addAll_3 4 rfl rfl)
abbrev cJ2_toArray : ByteArray := prog_41_method_16_code
def yJ2_toArray : MethodName := ⟨RJ2, "toArray", "()[Ljava/lang/Object;"⟩
def dkwJ2_toArray_0 : List UInt8 := [42, 180, 0, 9, 42, 180, 0, 48, 184, 0, 66, 176]
abbrev dktJ2_toArray_0 : List UInt8 := dkwJ2_toArray_0 ++ []
theorem dksJ2_toArray_0 : cJ2_toArray.data.toList.drop 0 = dktJ2_toArray_0 := by decide +kernel
theorem dJ2_toArray_0 : decode cJ2_toArray 0 = .ok (.aload_n 0, 1) := dk_42 (dk_at dksJ2_toArray_0 0 rfl rfl)
theorem dJ2_toArray_1 : decode cJ2_toArray 1 = .ok (.getfield 9, 3) := dk_180 0 9 (dk_at dksJ2_toArray_0 1 rfl rfl)
theorem dJ2_toArray_4 : decode cJ2_toArray 4 = .ok (.aload_n 0, 1) := dk_42 (dk_at dksJ2_toArray_0 4 rfl rfl)
theorem dJ2_toArray_5 : decode cJ2_toArray 5 = .ok (.getfield 48, 3) := dk_180 0 48 (dk_at dksJ2_toArray_0 5 rfl rfl)
theorem dJ2_toArray_8 : decode cJ2_toArray 8 = .ok (.invokestatic 66, 3) := dk_184 0 66 (dk_at dksJ2_toArray_0 8 rfl rfl)
theorem dJ2_toArray_11 : decode cJ2_toArray 11 = .ok (.areturn, 1) := dk_176 (dk_at dksJ2_toArray_0 11 rfl rfl)
theorem q144 : (Jvm.Cond.initialized "java/util/ArrayList") ∈ lw_all := lw_g (lw_at lw_m1 5 rfl) rfl
theorem q196 : (Jvm.Cond.instantiable "java/util/ArrayList" (3 : Nat)) ∈ lw_all := lw_g (lw_at lw_m1 57 rfl) rfl
theorem q198 : (Jvm.Cond.instanceMethod ({ cls := "java/util/ArrayList", name := "<init>", desc := "(I)V" } : Jvm.MethodName)) ∈ lw_all := lw_g (lw_at lw_m1 59 rfl) rfl
theorem q199 : (Jvm.Cond.code ({ cls := "java/util/ArrayList", name := "<init>", desc := "(I)V" } : Jvm.MethodName) prog_41_method_1_code (2 : Nat) (Option.none : Option Jvm.ClassFile.FieldType)) ∈ lw_all := lw_g (lw_at lw_m1 60 rfl) rfl
theorem q200 : (Jvm.Cond.methodLink "java/util/ArrayList" (1 : Nat) ({ cls := "java/util/AbstractList", name := "<init>", desc := "()V" } : Jvm.MethodName)) ∈ lw_all := lw_g (lw_at lw_m1 61 rfl) rfl
theorem q207 : (Jvm.Cond.classLink "java/util/ArrayList" (7 : Nat) "java/lang/Object") ∈ lw_all := lw_g (lw_at lw_m1 68 rfl) rfl
theorem q209 : (Jvm.Cond.fieldLink "java/util/ArrayList" (15 : Nat) "java/util/ArrayList" "EMPTY_ELEMENTDATA" "[Ljava/lang/Object;") ∈ lw_all := lw_g (lw_at lw_m1 70 rfl) rfl
theorem q210 : (Jvm.Cond.laysStatic "java/util/ArrayList" "EMPTY_ELEMENTDATA" "[Ljava/lang/Object;") ∈ lw_tbl := lw_at lw_m1 71 rfl
theorem q211 : (Jvm.Cond.fieldLink "java/util/ArrayList" (9 : Nat) "java/util/ArrayList" "elementData" "[Ljava/lang/Object;") ∈ lw_all := lw_g (lw_at lw_m1 72 rfl) rfl
theorem q212 : (Jvm.Cond.fieldLink "java/util/ArrayList" (48 : Nat) "java/util/ArrayList" "size" "I") ∈ lw_all := lw_g (lw_at lw_m1 73 rfl) rfl
theorem q214 : (Jvm.Cond.fieldLink "java/util/ArrayList" (63 : Nat) "java/util/ArrayList" "modCount" "I") ∈ lw_all := lw_g (lw_at lw_m1 75 rfl) rfl
theorem q215 : (Jvm.Cond.sameField "java/util/ArrayList" "java/util/AbstractList" "modCount" "I") ∈ lw_all := lw_g (lw_at lw_m1 76 rfl) rfl
theorem q216 : (Jvm.Cond.lays "java/util/ArrayList" "java/util/ArrayList" "elementData" "[Ljava/lang/Object;") ∈ lw_all := lw_g (lw_at lw_m1 77 rfl) rfl
theorem q217 : (Jvm.Cond.soleField "java/util/ArrayList" "elementData") ∈ lw_all := lw_g (lw_at lw_m1 78 rfl) rfl
theorem q218 : (Jvm.Cond.lays "java/util/ArrayList" "java/util/ArrayList" "size" "I") ∈ lw_all := lw_g (lw_at lw_m1 79 rfl) rfl
theorem q219 : (Jvm.Cond.soleField "java/util/ArrayList" "size") ∈ lw_all := lw_g (lw_at lw_m1 80 rfl) rfl
theorem q220 : (Jvm.Cond.lays "java/util/ArrayList" "java/util/AbstractList" "modCount" "I") ∈ lw_all := lw_g (lw_at lw_m1 81 rfl) rfl
theorem q222 : (Jvm.Cond.superclass "java/util/ArrayList" "java/util/AbstractList") ∈ lw_all := lw_g (lw_at lw_m1 83 rfl) rfl
theorem q701 : (Jvm.Cond.instanceMethod ({ cls := "java/util/ArrayList", name := "size", desc := "()I" } : Jvm.MethodName)) ∈ lw_all := lw_g (lw_at lw_m3 82 rfl) rfl
theorem q702 : (Jvm.Cond.selects "java/util/ArrayList" ({ cls := "java/util/ArrayList", name := "size", desc := "()I" } : Jvm.MethodName) ({ cls := "java/util/ArrayList", name := "size", desc := "()I" } : Jvm.MethodName)) ∈ lw_all := lw_g (lw_at lw_m3 83 rfl) rfl
theorem q703 : (Jvm.Cond.code ({ cls := "java/util/ArrayList", name := "size", desc := "()I" } : Jvm.MethodName) prog_41_method_8_code (1 : Nat) (Option.some Jvm.ClassFile.FieldType.int)) ∈ lw_all := lw_g (lw_at lw_m3 84 rfl) rfl
theorem q732 : (Jvm.Cond.instanceMethod ({ cls := "java/util/ArrayList", name := "add", desc := "(Ljava/lang/Object;)Z" } : Jvm.MethodName)) ∈ lw_all := lw_g (lw_at lw_m3 113 rfl) rfl
theorem q733 : (Jvm.Cond.selects "java/util/ArrayList" ({ cls := "java/util/ArrayList", name := "add", desc := "(Ljava/lang/Object;)Z" } : Jvm.MethodName) ({ cls := "java/util/ArrayList", name := "add", desc := "(Ljava/lang/Object;)Z" } : Jvm.MethodName)) ∈ lw_all := lw_g (lw_at lw_m3 114 rfl) rfl
theorem q734 : (Jvm.Cond.code ({ cls := "java/util/ArrayList", name := "add", desc := "(Ljava/lang/Object;)Z" } : Jvm.MethodName) prog_41_method_25_code (2 : Nat) (Option.some Jvm.ClassFile.FieldType.boolean)) ∈ lw_all := lw_g (lw_at lw_m3 115 rfl) rfl
theorem q735 : (Jvm.Cond.methodLink "java/util/ArrayList" (131 : Nat) ({ cls := "java/util/ArrayList", name := "add", desc := "(Ljava/lang/Object;[Ljava/lang/Object;I)V" } : Jvm.MethodName)) ∈ lw_all := lw_g (lw_at lw_m3 116 rfl) rfl
theorem q736 : (Jvm.Cond.privateMethod ({ cls := "java/util/ArrayList", name := "add", desc := "(Ljava/lang/Object;[Ljava/lang/Object;I)V" } : Jvm.MethodName)) ∈ lw_tbl := lw_at lw_m3 117 rfl
theorem q737 : (Jvm.Cond.instanceMethod ({ cls := "java/util/ArrayList", name := "add", desc := "(Ljava/lang/Object;[Ljava/lang/Object;I)V" } : Jvm.MethodName)) ∈ lw_all := lw_g (lw_at lw_m3 118 rfl) rfl
theorem q738 : (Jvm.Cond.code ({ cls := "java/util/ArrayList", name := "add", desc := "(Ljava/lang/Object;[Ljava/lang/Object;I)V" } : Jvm.MethodName) prog_41_method_24_code (4 : Nat) (Option.none : Option Jvm.ClassFile.FieldType)) ∈ lw_all := lw_g (lw_at lw_m3 119 rfl) rfl
theorem q739 : (Jvm.Cond.methodLink "java/util/ArrayList" (129 : Nat) ({ cls := "java/util/ArrayList", name := "grow", desc := "()[Ljava/lang/Object;" } : Jvm.MethodName)) ∈ lw_all := lw_g (lw_at lw_m3 120 rfl) rfl
theorem q740 : (Jvm.Cond.privateMethod ({ cls := "java/util/ArrayList", name := "grow", desc := "()[Ljava/lang/Object;" } : Jvm.MethodName)) ∈ lw_tbl := lw_at lw_m3 121 rfl
theorem q741 : (Jvm.Cond.instanceMethod ({ cls := "java/util/ArrayList", name := "grow", desc := "()[Ljava/lang/Object;" } : Jvm.MethodName)) ∈ lw_all := lw_g (lw_at lw_m3 122 rfl) rfl
theorem q742 : (Jvm.Cond.code ({ cls := "java/util/ArrayList", name := "grow", desc := "()[Ljava/lang/Object;" } : Jvm.MethodName) prog_41_method_7_code (1 : Nat) (Option.some (Jvm.ClassFile.FieldType.array (Jvm.ClassFile.FieldType.object "java/lang/Object")))) ∈ lw_all := lw_g (lw_at lw_m3 123 rfl) rfl
theorem q743 : (Jvm.Cond.methodLink "java/util/ArrayList" (69 : Nat) ({ cls := "java/util/ArrayList", name := "grow", desc := "(I)[Ljava/lang/Object;" } : Jvm.MethodName)) ∈ lw_all := lw_g (lw_at lw_m3 124 rfl) rfl
theorem q744 : (Jvm.Cond.privateMethod ({ cls := "java/util/ArrayList", name := "grow", desc := "(I)[Ljava/lang/Object;" } : Jvm.MethodName)) ∈ lw_tbl := lw_at lw_m3 125 rfl
theorem q745 : (Jvm.Cond.instanceMethod ({ cls := "java/util/ArrayList", name := "grow", desc := "(I)[Ljava/lang/Object;" } : Jvm.MethodName)) ∈ lw_all := lw_g (lw_at lw_m3 126 rfl) rfl
theorem q746 : (Jvm.Cond.code ({ cls := "java/util/ArrayList", name := "grow", desc := "(I)[Ljava/lang/Object;" } : Jvm.MethodName) prog_41_method_6_code (4 : Nat) (Option.some (Jvm.ClassFile.FieldType.array (Jvm.ClassFile.FieldType.object "java/lang/Object")))) ∈ lw_all := lw_g (lw_at lw_m3 127 rfl) rfl
theorem q747 : (Jvm.Cond.fieldLink "java/util/ArrayList" (39 : Nat) "java/util/ArrayList" "DEFAULTCAPACITY_EMPTY_ELEMENTDATA" "[Ljava/lang/Object;") ∈ lw_all := lw_g (lw_at lw_m3 128 rfl) rfl
theorem q748 : (Jvm.Cond.laysStatic "java/util/ArrayList" "DEFAULTCAPACITY_EMPTY_ELEMENTDATA" "[Ljava/lang/Object;") ∈ lw_tbl := lw_at lw_m3 129 rfl
theorem q749 : (Jvm.Cond.methodLink "java/util/ArrayList" (73 : Nat) ({ cls := "jdk/internal/util/ArraysSupport", name := "newLength", desc := "(III)I" } : Jvm.MethodName)) ∈ lw_all := lw_g (lw_at lw_m3 130 rfl) rfl
theorem q759 : (Jvm.Cond.methodLink "java/util/ArrayList" (66 : Nat) ({ cls := "java/util/Arrays", name := "copyOf", desc := "([Ljava/lang/Object;I)[Ljava/lang/Object;" } : Jvm.MethodName)) ∈ lw_all := lw_g (lw_at lw_m3 140 rfl) rfl
theorem q787 : (Jvm.Cond.selects "java/util/ArrayList" ({ cls := "java/lang/Object", name := "getClass", desc := "()Ljava/lang/Class;" } : Jvm.MethodName) ({ cls := "java/lang/Object", name := "getClass", desc := "()Ljava/lang/Class;" } : Jvm.MethodName)) ∈ lw_all := lw_g (lw_at lw_m3 168 rfl) rfl
theorem q798 : (Jvm.Cond.methodLink "java/util/ArrayList" (79 : Nat) ({ cls := "java/lang/Math", name := "max", desc := "(II)I" } : Jvm.MethodName)) ∈ lw_all := lw_g (lw_at lw_m3 179 rfl) rfl
theorem q834 : (Jvm.Cond.instanceMethod ({ cls := "java/util/ArrayList", name := "get", desc := "(I)Ljava/lang/Object;" } : Jvm.MethodName)) ∈ lw_all := lw_g (lw_at lw_m3 215 rfl) rfl
theorem q835 : (Jvm.Cond.selects "java/util/ArrayList" ({ cls := "java/util/ArrayList", name := "get", desc := "(I)Ljava/lang/Object;" } : Jvm.MethodName) ({ cls := "java/util/ArrayList", name := "get", desc := "(I)Ljava/lang/Object;" } : Jvm.MethodName)) ∈ lw_all := lw_g (lw_at lw_m3 216 rfl) rfl
theorem q836 : (Jvm.Cond.code ({ cls := "java/util/ArrayList", name := "get", desc := "(I)Ljava/lang/Object;" } : Jvm.MethodName) prog_41_method_20_code (2 : Nat) (Option.some (Jvm.ClassFile.FieldType.object "java/lang/Object"))) ∈ lw_all := lw_g (lw_at lw_m3 217 rfl) rfl
theorem q837 : (Jvm.Cond.methodLink "java/util/ArrayList" (118 : Nat) ({ cls := "java/util/Objects", name := "checkIndex", desc := "(II)I" } : Jvm.MethodName)) ∈ lw_all := lw_g (lw_at lw_m3 218 rfl) rfl
theorem q841 : (Jvm.Cond.methodLink "java/util/ArrayList" (123 : Nat) ({ cls := "java/util/ArrayList", name := "elementData", desc := "(I)Ljava/lang/Object;" } : Jvm.MethodName)) ∈ lw_all := lw_g (lw_at lw_m3 222 rfl) rfl
theorem q842 : (Jvm.Cond.instanceMethod ({ cls := "java/util/ArrayList", name := "elementData", desc := "(I)Ljava/lang/Object;" } : Jvm.MethodName)) ∈ lw_all := lw_g (lw_at lw_m3 223 rfl) rfl
theorem q843 : (Jvm.Cond.selects "java/util/ArrayList" ({ cls := "java/util/ArrayList", name := "elementData", desc := "(I)Ljava/lang/Object;" } : Jvm.MethodName) ({ cls := "java/util/ArrayList", name := "elementData", desc := "(I)Ljava/lang/Object;" } : Jvm.MethodName)) ∈ lw_all := lw_g (lw_at lw_m3 224 rfl) rfl
theorem q844 : (Jvm.Cond.code ({ cls := "java/util/ArrayList", name := "elementData", desc := "(I)Ljava/lang/Object;" } : Jvm.MethodName) prog_41_method_18_code (2 : Nat) (Option.some (Jvm.ClassFile.FieldType.object "java/lang/Object"))) ∈ lw_all := lw_g (lw_at lw_m3 225 rfl) rfl
theorem q1629 : (Jvm.Cond.instanceMethod ({ cls := "java/util/ArrayList", name := "addAll", desc := "(Ljava/util/Collection;)Z" } : Jvm.MethodName)) ∈ lw_all := lw_g (lw_at lw_m7 50 rfl) rfl
theorem q1630 : (Jvm.Cond.selects "java/util/ArrayList" ({ cls := "java/util/ArrayList", name := "addAll", desc := "(Ljava/util/Collection;)Z" } : Jvm.MethodName) ({ cls := "java/util/ArrayList", name := "addAll", desc := "(Ljava/util/Collection;)Z" } : Jvm.MethodName)) ∈ lw_all := lw_g (lw_at lw_m7 51 rfl) rfl
theorem q1631 : (Jvm.Cond.code ({ cls := "java/util/ArrayList", name := "addAll", desc := "(Ljava/util/Collection;)Z" } : Jvm.MethodName) prog_41_method_41_code (6 : Nat) (Option.some Jvm.ClassFile.FieldType.boolean)) ∈ lw_all := lw_g (lw_at lw_m7 52 rfl) rfl
theorem q1632 : (Jvm.Cond.interfaceEntry "java/util/ArrayList" (42 : Nat)) ∈ lw_tbl := lw_at lw_m7 53 rfl
theorem q1633 : (Jvm.Cond.methodLink "java/util/ArrayList" (42 : Nat) ({ cls := "java/util/Collection", name := "toArray", desc := "()[Ljava/lang/Object;" } : Jvm.MethodName)) ∈ lw_all := lw_g (lw_at lw_m7 54 rfl) rfl
theorem q1636 : (Jvm.Cond.castable "java/util/ArrayList" "java/util/Collection") ∈ lw_tbl := lw_at lw_m7 57 rfl
theorem q1637 : (Jvm.Cond.selects "java/util/ArrayList" ({ cls := "java/util/Collection", name := "toArray", desc := "()[Ljava/lang/Object;" } : Jvm.MethodName) ({ cls := "java/util/ArrayList", name := "toArray", desc := "()[Ljava/lang/Object;" } : Jvm.MethodName)) ∈ lw_all := lw_g (lw_at lw_m7 58 rfl) rfl
theorem q1638 : (Jvm.Cond.unhidden "java/util/ArrayList" "toArray" "()[Ljava/lang/Object;") ∈ lw_tbl := lw_at lw_m7 59 rfl
theorem q1639 : (Jvm.Cond.instanceMethod ({ cls := "java/util/ArrayList", name := "toArray", desc := "()[Ljava/lang/Object;" } : Jvm.MethodName)) ∈ lw_all := lw_g (lw_at lw_m7 60 rfl) rfl
theorem q1640 : (Jvm.Cond.publicMethod ({ cls := "java/util/ArrayList", name := "toArray", desc := "()[Ljava/lang/Object;" } : Jvm.MethodName)) ∈ lw_tbl := lw_at lw_m7 61 rfl
theorem q1641 : (Jvm.Cond.code ({ cls := "java/util/ArrayList", name := "toArray", desc := "()[Ljava/lang/Object;" } : Jvm.MethodName) prog_41_method_16_code (1 : Nat) (Option.some (Jvm.ClassFile.FieldType.array (Jvm.ClassFile.FieldType.object "java/lang/Object")))) ∈ lw_all := lw_g (lw_at lw_m7 62 rfl) rfl
theorem q1642 : (Jvm.Cond.methodLink "java/util/ArrayList" (112 : Nat) ({ cls := "java/lang/System", name := "arraycopy", desc := "(Ljava/lang/Object;ILjava/lang/Object;II)V" } : Jvm.MethodName)) ∈ lw_all := lw_g (lw_at lw_m7 63 rfl) rfl
theorem q2541 : (Jvm.Cond.castable "java/util/ArrayList" "java/lang/Object") ∈ lw_tbl := lw_at lw_m11 2 rfl
theorem in_J2 : ∀ w ∈ wsJ20, w ∈ lw_all := lw_in wsJ20 [220, 216, 218] (by decide +kernel) (by decide +kernel)

/-! java/lang/Object -/
set_option maxRecDepth 100000
def RJ20 : String := "java/lang/Object"
abbrev cJ20_init : ByteArray := object_method_1_code
def yJ20_init : MethodName := ⟨RJ20, "<init>", "()V"⟩
theorem dJ20_init_0 : decode cJ20_init 0 = .ok (.return_, 1) := by decide +kernel
theorem q187 : (Jvm.Cond.instanceMethod ({ cls := "java/lang/Object", name := "<init>", desc := "()V" } : Jvm.MethodName)) ∈ lw_all := lw_g (lw_at lw_m1 48 rfl) rfl
theorem q188 : (Jvm.Cond.code ({ cls := "java/lang/Object", name := "<init>", desc := "()V" } : Jvm.MethodName) object_method_1_code (1 : Nat) (Option.none : Option Jvm.ClassFile.FieldType)) ∈ lw_all := lw_g (lw_at lw_m1 49 rfl) rfl
theorem q763 : (Jvm.Cond.instanceMethod ({ cls := "java/lang/Object", name := "getClass", desc := "()Ljava/lang/Class;" } : Jvm.MethodName)) ∈ lw_all := lw_g (lw_at lw_m3 144 rfl) rfl
theorem q764 : (Jvm.Cond.sameMethod "java/lang/Object" "java/lang/Object" "getClass" "()Ljava/lang/Class;") ∈ lw_all := lw_g (lw_at lw_m3 145 rfl) rfl
theorem q788 : (Jvm.Cond.native ({ cls := "java/lang/Object", name := "getClass", desc := "()Ljava/lang/Class;" } : Jvm.MethodName)) ∈ lw_all := lw_g (lw_at lw_m3 169 rfl) rfl
theorem q2532 : (Jvm.Cond.initialized "java/lang/Object") ∈ lw_all := lw_g (lw_at lw_m10 233 rfl) rfl
theorem q2564 : (Jvm.Cond.declares ({ cls := "java/lang/Object", name := "getClass", desc := "()Ljava/lang/Class;" } : Jvm.MethodName)) ∈ lw_tbl := lw_at lw_m11 25 rfl

/-! java/lang/Math -/
set_option maxRecDepth 100000
def RJ3 : String := "java/lang/Math"
abbrev cJ3_min : ByteArray := prog_30_method_69_code
def yJ3_min : MethodName := ⟨RJ3, "min", "(II)I"⟩
def dkwJ3_min_0 : List UInt8 := [26, 27, 163, 0, 7, 26, 167, 0, 4, 27, 172]
abbrev dktJ3_min_0 : List UInt8 := dkwJ3_min_0 ++ []
theorem dksJ3_min_0 : cJ3_min.data.toList.drop 0 = dktJ3_min_0 := by decide +kernel
theorem dJ3_min_0 : decode cJ3_min 0 = .ok (.iload_n 0, 1) := dk_26 (dk_at dksJ3_min_0 0 rfl rfl)
theorem dJ3_min_1 : decode cJ3_min 1 = .ok (.iload_n 1, 1) := dk_27 (dk_at dksJ3_min_0 1 rfl rfl)
theorem dJ3_min_2 : decode cJ3_min 2 = .ok (.if_icmp .gt 7, 3) := dk_163 0 7 (dk_at dksJ3_min_0 2 rfl rfl)
theorem dJ3_min_5 : decode cJ3_min 5 = .ok (.iload_n 0, 1) := dk_26 (dk_at dksJ3_min_0 5 rfl rfl)
theorem dJ3_min_6 : decode cJ3_min 6 = .ok (.goto 4, 3) := dk_167 0 4 (dk_at dksJ3_min_0 6 rfl rfl)
theorem dJ3_min_9 : decode cJ3_min 9 = .ok (.iload_n 1, 1) := dk_27 (dk_at dksJ3_min_0 9 rfl rfl)
theorem dJ3_min_10 : decode cJ3_min 10 = .ok (.ireturn, 1) := dk_172 (dk_at dksJ3_min_0 10 rfl rfl)
abbrev cJ3_max : ByteArray := prog_30_method_65_code
def yJ3_max : MethodName := ⟨RJ3, "max", "(II)I"⟩
def dkwJ3_max_0 : List UInt8 := [26, 27, 161, 0, 7, 26, 167, 0, 4, 27, 172]
abbrev dktJ3_max_0 : List UInt8 := dkwJ3_max_0 ++ []
theorem dksJ3_max_0 : cJ3_max.data.toList.drop 0 = dktJ3_max_0 := by decide +kernel
theorem dJ3_max_0 : decode cJ3_max 0 = .ok (.iload_n 0, 1) := dk_26 (dk_at dksJ3_max_0 0 rfl rfl)
theorem dJ3_max_1 : decode cJ3_max 1 = .ok (.iload_n 1, 1) := dk_27 (dk_at dksJ3_max_0 1 rfl rfl)
theorem dJ3_max_2 : decode cJ3_max 2 = .ok (.if_icmp .lt 7, 3) := dk_161 0 7 (dk_at dksJ3_max_0 2 rfl rfl)
theorem dJ3_max_5 : decode cJ3_max 5 = .ok (.iload_n 0, 1) := dk_26 (dk_at dksJ3_max_0 5 rfl rfl)
theorem dJ3_max_6 : decode cJ3_max 6 = .ok (.goto 4, 3) := dk_167 0 4 (dk_at dksJ3_max_0 6 rfl rfl)
theorem dJ3_max_9 : decode cJ3_max 9 = .ok (.iload_n 1, 1) := dk_27 (dk_at dksJ3_max_0 9 rfl rfl)
theorem dJ3_max_10 : decode cJ3_max 10 = .ok (.ireturn, 1) := dk_172 (dk_at dksJ3_max_0 10 rfl rfl)
abbrev cJ3_abs : ByteArray := prog_30_method_59_code
def yJ3_abs : MethodName := ⟨RJ3, "abs", "(I)I"⟩
def dkwJ3_abs_0 : List UInt8 := [26, 156, 0, 8, 26, 116, 167, 0, 4, 26, 172]
abbrev dktJ3_abs_0 : List UInt8 := dkwJ3_abs_0 ++ []
theorem dksJ3_abs_0 : cJ3_abs.data.toList.drop 0 = dktJ3_abs_0 := by decide +kernel
theorem dJ3_abs_0 : decode cJ3_abs 0 = .ok (.iload_n 0, 1) := dk_26 (dk_at dksJ3_abs_0 0 rfl rfl)
theorem dJ3_abs_1 : decode cJ3_abs 1 = .ok (.ifCond .ge 8, 3) := dk_156 0 8 (dk_at dksJ3_abs_0 1 rfl rfl)
theorem dJ3_abs_4 : decode cJ3_abs 4 = .ok (.iload_n 0, 1) := dk_26 (dk_at dksJ3_abs_0 4 rfl rfl)
theorem dJ3_abs_5 : decode cJ3_abs 5 = .ok (.ineg, 1) := dk_116 (dk_at dksJ3_abs_0 5 rfl rfl)
theorem dJ3_abs_6 : decode cJ3_abs 6 = .ok (.goto 4, 3) := dk_167 0 4 (dk_at dksJ3_abs_0 6 rfl rfl)
theorem dJ3_abs_9 : decode cJ3_abs 9 = .ok (.iload_n 0, 1) := dk_26 (dk_at dksJ3_abs_0 9 rfl rfl)
theorem dJ3_abs_10 : decode cJ3_abs 10 = .ok (.ireturn, 1) := dk_172 (dk_at dksJ3_abs_0 10 rfl rfl)
abbrev cJ3_max_2 : ByteArray := prog_30_method_66_code
def yJ3_max_2 : MethodName := ⟨RJ3, "max", "(JJ)J"⟩
def dkwJ3_max_2_0 : List UInt8 := [30, 32, 148, 155, 0, 7, 30, 167, 0, 4, 32, 173]
abbrev dktJ3_max_2_0 : List UInt8 := dkwJ3_max_2_0 ++ []
theorem dksJ3_max_2_0 : cJ3_max_2.data.toList.drop 0 = dktJ3_max_2_0 := by decide +kernel
theorem dJ3_max_2_0 : decode cJ3_max_2 0 = .ok (.lload_n 0, 1) := dk_30 (dk_at dksJ3_max_2_0 0 rfl rfl)
theorem dJ3_max_2_1 : decode cJ3_max_2 1 = .ok (.lload_n 2, 1) := dk_32 (dk_at dksJ3_max_2_0 1 rfl rfl)
theorem dJ3_max_2_2 : decode cJ3_max_2 2 = .ok (.lcmp, 1) := dk_148 (dk_at dksJ3_max_2_0 2 rfl rfl)
theorem dJ3_max_2_3 : decode cJ3_max_2 3 = .ok (.ifCond .lt 7, 3) := dk_155 0 7 (dk_at dksJ3_max_2_0 3 rfl rfl)
theorem dJ3_max_2_6 : decode cJ3_max_2 6 = .ok (.lload_n 0, 1) := dk_30 (dk_at dksJ3_max_2_0 6 rfl rfl)
theorem dJ3_max_2_7 : decode cJ3_max_2 7 = .ok (.goto 4, 3) := dk_167 0 4 (dk_at dksJ3_max_2_0 7 rfl rfl)
theorem dJ3_max_2_10 : decode cJ3_max_2 10 = .ok (.lload_n 2, 1) := dk_32 (dk_at dksJ3_max_2_0 10 rfl rfl)
theorem dJ3_max_2_11 : decode cJ3_max_2 11 = .ok (.lreturn, 1) := dk_173 (dk_at dksJ3_max_2_0 11 rfl rfl)
theorem q153 : (Jvm.Cond.initialized "java/lang/Math") ∈ lw_all := lw_g (lw_at lw_m1 14 rfl) rfl
theorem q498 : (Jvm.Cond.static ({ cls := "java/lang/Math", name := "min", desc := "(II)I" } : Jvm.MethodName)) ∈ lw_all := lw_g (lw_at lw_m2 119 rfl) rfl
theorem q499 : (Jvm.Cond.code ({ cls := "java/lang/Math", name := "min", desc := "(II)I" } : Jvm.MethodName) prog_30_method_69_code (2 : Nat) (Option.some Jvm.ClassFile.FieldType.int)) ∈ lw_all := lw_g (lw_at lw_m2 120 rfl) rfl
theorem q753 : (Jvm.Cond.static ({ cls := "java/lang/Math", name := "max", desc := "(II)I" } : Jvm.MethodName)) ∈ lw_all := lw_g (lw_at lw_m3 134 rfl) rfl
theorem q754 : (Jvm.Cond.code ({ cls := "java/lang/Math", name := "max", desc := "(II)I" } : Jvm.MethodName) prog_30_method_65_code (2 : Nat) (Option.some Jvm.ClassFile.FieldType.int)) ∈ lw_all := lw_g (lw_at lw_m3 135 rfl) rfl
theorem q985 : (Jvm.Cond.static ({ cls := "java/lang/Math", name := "abs", desc := "(I)I" } : Jvm.MethodName)) ∈ lw_all := lw_g (lw_at lw_m4 126 rfl) rfl
theorem q986 : (Jvm.Cond.code ({ cls := "java/lang/Math", name := "abs", desc := "(I)I" } : Jvm.MethodName) prog_30_method_59_code (1 : Nat) (Option.some Jvm.ClassFile.FieldType.int)) ∈ lw_all := lw_g (lw_at lw_m4 127 rfl) rfl
theorem q1605 : (Jvm.Cond.static ({ cls := "java/lang/Math", name := "max", desc := "(JJ)J" } : Jvm.MethodName)) ∈ lw_all := lw_g (lw_at lw_m7 26 rfl) rfl
theorem q1606 : (Jvm.Cond.code ({ cls := "java/lang/Math", name := "max", desc := "(JJ)J" } : Jvm.MethodName) prog_30_method_66_code (4 : Nat) (Option.some Jvm.ClassFile.FieldType.long)) ∈ lw_all := lw_g (lw_at lw_m7 27 rfl) rfl

/-! java/lang/String -/
set_option maxRecDepth 100000
def RJ4 : String := "java/lang/String"
def TJ4 : u_T := fun k => match k with
  | 0 => ("java/lang/String", "value", "[B", true)
  | _ => ("java/lang/String", "coder", "B", true)
def tyJ4 : Nat → FieldType := fun k => match k with
  | 0 => .array .byte
  | _ => .byte
abbrev wsJ40 : List Cond := u_ws RJ4 TJ4 2
theorem nmJ4 : ∀ a, a < 2 → ∀ b, b < 2 → a ≠ b → (TJ4 a).2.1 ≠ (TJ4 b).2.1 := by decide +kernel
theorem tyJ4_ok : ∀ k, k < 2 → parseFieldDescriptor (TJ4 k).2.2.1 = some (tyJ4 k) := by decide +kernel
abbrev cJ4_length : ByteArray := prog_34_method_54_code
def yJ4_length : MethodName := ⟨RJ4, "length", "()I"⟩
def dkwJ4_length_0 : List UInt8 := [42, 180, 0, 9, 190, 42, 182, 1, 79, 122, 172]
abbrev dktJ4_length_0 : List UInt8 := dkwJ4_length_0 ++ []
theorem dksJ4_length_0 : cJ4_length.data.toList.drop 0 = dktJ4_length_0 := by decide +kernel
theorem dJ4_length_0 : decode cJ4_length 0 = .ok (.aload_n 0, 1) := dk_42 (dk_at dksJ4_length_0 0 rfl rfl)
theorem dJ4_length_1 : decode cJ4_length 1 = .ok (.getfield 9, 3) := dk_180 0 9 (dk_at dksJ4_length_0 1 rfl rfl)
theorem dJ4_length_4 : decode cJ4_length 4 = .ok (.arraylength, 1) := dk_190 (dk_at dksJ4_length_0 4 rfl rfl)
theorem dJ4_length_5 : decode cJ4_length 5 = .ok (.aload_n 0, 1) := dk_42 (dk_at dksJ4_length_0 5 rfl rfl)
theorem dJ4_length_6 : decode cJ4_length 6 = .ok (.invokevirtual 335, 3) := dk_182 1 79 (dk_at dksJ4_length_0 6 rfl rfl)
theorem dJ4_length_9 : decode cJ4_length 9 = .ok (.ishr, 1) := dk_122 (dk_at dksJ4_length_0 9 rfl rfl)
theorem dJ4_length_10 : decode cJ4_length 10 = .ok (.ireturn, 1) := dk_172 (dk_at dksJ4_length_0 10 rfl rfl)
abbrev cJ4_coder : ByteArray := prog_34_method_152_code
def yJ4_coder : MethodName := ⟨RJ4, "coder", "()B"⟩
def dkwJ4_coder_0 : List UInt8 := [178, 0, 38, 153, 0, 10, 42, 180, 0, 15, 167, 0, 4, 4, 172]
abbrev dktJ4_coder_0 : List UInt8 := dkwJ4_coder_0 ++ []
theorem dksJ4_coder_0 : cJ4_coder.data.toList.drop 0 = dktJ4_coder_0 := by decide +kernel
theorem dJ4_coder_0 : decode cJ4_coder 0 = .ok (.getstatic 38, 3) := dk_178 0 38 (dk_at dksJ4_coder_0 0 rfl rfl)
theorem dJ4_coder_3 : decode cJ4_coder 3 = .ok (.ifCond .eq 10, 3) := dk_153 0 10 (dk_at dksJ4_coder_0 3 rfl rfl)
theorem dJ4_coder_6 : decode cJ4_coder 6 = .ok (.aload_n 0, 1) := dk_42 (dk_at dksJ4_coder_0 6 rfl rfl)
theorem dJ4_coder_7 : decode cJ4_coder 7 = .ok (.getfield 15, 3) := dk_180 0 15 (dk_at dksJ4_coder_0 7 rfl rfl)
theorem dJ4_coder_10 : decode cJ4_coder 10 = .ok (.goto 4, 3) := dk_167 0 4 (dk_at dksJ4_coder_0 10 rfl rfl)
theorem dJ4_coder_13 : decode cJ4_coder 13 = .ok (.iconst 1, 1) := dk_4 (dk_at dksJ4_coder_0 13 rfl rfl)
theorem dJ4_coder_14 : decode cJ4_coder 14 = .ok (.ireturn, 1) := dk_172 (dk_at dksJ4_coder_0 14 rfl rfl)
abbrev cJ4_charAt : ByteArray := prog_34_method_56_code
def yJ4_charAt : MethodName := ⟨RJ4, "charAt", "(I)C"⟩
def dkwJ4_charAt_1 : List UInt8 := [172]
abbrev dktJ4_charAt_1 : List UInt8 := dkwJ4_charAt_1 ++ []
def dkwJ4_charAt_0 : List UInt8 := [42, 182, 1, 236, 153, 0, 12, 42, 180, 0, 9, 27, 184, 1, 239, 172, 42, 180, 0, 9, 27, 184, 1, 242]
abbrev dktJ4_charAt_0 : List UInt8 := dkwJ4_charAt_0 ++ dktJ4_charAt_1
theorem dksJ4_charAt_0 : cJ4_charAt.data.toList.drop 0 = dktJ4_charAt_0 := by decide +kernel
theorem dksJ4_charAt_1 : cJ4_charAt.data.toList.drop 24 = dktJ4_charAt_1 := dk_seg dksJ4_charAt_0 24 rfl rfl
theorem dJ4_charAt_0 : decode cJ4_charAt 0 = .ok (.aload_n 0, 1) := dk_42 (dk_at dksJ4_charAt_0 0 rfl rfl)
theorem dJ4_charAt_1 : decode cJ4_charAt 1 = .ok (.invokevirtual 492, 3) := dk_182 1 236 (dk_at dksJ4_charAt_0 1 rfl rfl)
theorem dJ4_charAt_4 : decode cJ4_charAt 4 = .ok (.ifCond .eq 12, 3) := dk_153 0 12 (dk_at dksJ4_charAt_0 4 rfl rfl)
theorem dJ4_charAt_7 : decode cJ4_charAt 7 = .ok (.aload_n 0, 1) := dk_42 (dk_at dksJ4_charAt_0 7 rfl rfl)
theorem dJ4_charAt_8 : decode cJ4_charAt 8 = .ok (.getfield 9, 3) := dk_180 0 9 (dk_at dksJ4_charAt_0 8 rfl rfl)
theorem dJ4_charAt_11 : decode cJ4_charAt 11 = .ok (.iload_n 1, 1) := dk_27 (dk_at dksJ4_charAt_0 11 rfl rfl)
theorem dJ4_charAt_12 : decode cJ4_charAt 12 = .ok (.invokestatic 495, 3) := dk_184 1 239 (dk_at dksJ4_charAt_0 12 rfl rfl)
theorem dJ4_charAt_15 : decode cJ4_charAt 15 = .ok (.ireturn, 1) := dk_172 (dk_at dksJ4_charAt_0 15 rfl rfl)
theorem dJ4_charAt_16 : decode cJ4_charAt 16 = .ok (.aload_n 0, 1) := dk_42 (dk_at dksJ4_charAt_0 16 rfl rfl)
theorem dJ4_charAt_17 : decode cJ4_charAt 17 = .ok (.getfield 9, 3) := dk_180 0 9 (dk_at dksJ4_charAt_0 17 rfl rfl)
theorem dJ4_charAt_20 : decode cJ4_charAt 20 = .ok (.iload_n 1, 1) := dk_27 (dk_at dksJ4_charAt_0 20 rfl rfl)
theorem dJ4_charAt_21 : decode cJ4_charAt 21 = .ok (.invokestatic 498, 3) := dk_184 1 242 (dk_at dksJ4_charAt_0 21 rfl rfl)
theorem dJ4_charAt_24 : decode cJ4_charAt 24 = .ok (.ireturn, 1) := dk_172 (dk_at dksJ4_charAt_1 0 rfl rfl)
abbrev cJ4_isLatin1 : ByteArray := prog_34_method_154_code
def yJ4_isLatin1 : MethodName := ⟨RJ4, "isLatin1", "()Z"⟩
def dkwJ4_isLatin1_0 : List UInt8 := [178, 0, 38, 153, 0, 14, 42, 180, 0, 15, 154, 0, 7, 4, 167, 0, 4, 3, 172]
abbrev dktJ4_isLatin1_0 : List UInt8 := dkwJ4_isLatin1_0 ++ []
theorem dksJ4_isLatin1_0 : cJ4_isLatin1.data.toList.drop 0 = dktJ4_isLatin1_0 := by decide +kernel
theorem dJ4_isLatin1_0 : decode cJ4_isLatin1 0 = .ok (.getstatic 38, 3) := dk_178 0 38 (dk_at dksJ4_isLatin1_0 0 rfl rfl)
theorem dJ4_isLatin1_3 : decode cJ4_isLatin1 3 = .ok (.ifCond .eq 14, 3) := dk_153 0 14 (dk_at dksJ4_isLatin1_0 3 rfl rfl)
theorem dJ4_isLatin1_6 : decode cJ4_isLatin1 6 = .ok (.aload_n 0, 1) := dk_42 (dk_at dksJ4_isLatin1_0 6 rfl rfl)
theorem dJ4_isLatin1_7 : decode cJ4_isLatin1 7 = .ok (.getfield 15, 3) := dk_180 0 15 (dk_at dksJ4_isLatin1_0 7 rfl rfl)
theorem dJ4_isLatin1_10 : decode cJ4_isLatin1 10 = .ok (.ifCond .ne 7, 3) := dk_154 0 7 (dk_at dksJ4_isLatin1_0 10 rfl rfl)
theorem dJ4_isLatin1_13 : decode cJ4_isLatin1 13 = .ok (.iconst 1, 1) := dk_4 (dk_at dksJ4_isLatin1_0 13 rfl rfl)
theorem dJ4_isLatin1_14 : decode cJ4_isLatin1 14 = .ok (.goto 4, 3) := dk_167 0 4 (dk_at dksJ4_isLatin1_0 14 rfl rfl)
theorem dJ4_isLatin1_17 : decode cJ4_isLatin1 17 = .ok (.iconst 0, 1) := dk_3 (dk_at dksJ4_isLatin1_0 17 rfl rfl)
theorem dJ4_isLatin1_18 : decode cJ4_isLatin1 18 = .ok (.ireturn, 1) := dk_172 (dk_at dksJ4_isLatin1_0 18 rfl rfl)
abbrev cJ4_checkIndex : ByteArray := prog_34_method_155_code
def yJ4_checkIndex : MethodName := ⟨RJ4, "checkIndex", "(II)V"⟩
def dkwJ4_checkIndex_0 : List UInt8 := [26, 27, 178, 4, 29, 184, 4, 35, 87, 177]
abbrev dktJ4_checkIndex_0 : List UInt8 := dkwJ4_checkIndex_0 ++ []
theorem dksJ4_checkIndex_0 : cJ4_checkIndex.data.toList.drop 0 = dktJ4_checkIndex_0 := by decide +kernel
theorem dJ4_checkIndex_0 : decode cJ4_checkIndex 0 = .ok (.iload_n 0, 1) := dk_26 (dk_at dksJ4_checkIndex_0 0 rfl rfl)
theorem dJ4_checkIndex_1 : decode cJ4_checkIndex 1 = .ok (.iload_n 1, 1) := dk_27 (dk_at dksJ4_checkIndex_0 1 rfl rfl)
theorem dJ4_checkIndex_2 : decode cJ4_checkIndex 2 = .ok (.getstatic 1053, 3) := dk_178 4 29 (dk_at dksJ4_checkIndex_0 2 rfl rfl)
theorem dJ4_checkIndex_5 : decode cJ4_checkIndex 5 = .ok (.invokestatic 1059, 3) := dk_184 4 35 (dk_at dksJ4_checkIndex_0 5 rfl rfl)
theorem dJ4_checkIndex_8 : decode cJ4_checkIndex 8 = .ok (.pop, 1) := dk_87 (dk_at dksJ4_checkIndex_0 8 rfl rfl)
theorem dJ4_checkIndex_9 : decode cJ4_checkIndex 9 = .ok (.return_, 1) := dk_177 (dk_at dksJ4_checkIndex_0 9 rfl rfl)
theorem q154 : (Jvm.Cond.initialized "java/lang/String") ∈ lw_all := lw_g (lw_at lw_m1 15 rfl) rfl
theorem q550 : (Jvm.Cond.instanceMethod ({ cls := "java/lang/String", name := "length", desc := "()I" } : Jvm.MethodName)) ∈ lw_all := lw_g (lw_at lw_m2 171 rfl) rfl
theorem q551 : (Jvm.Cond.selects "java/lang/String" ({ cls := "java/lang/String", name := "length", desc := "()I" } : Jvm.MethodName) ({ cls := "java/lang/String", name := "length", desc := "()I" } : Jvm.MethodName)) ∈ lw_all := lw_g (lw_at lw_m2 172 rfl) rfl
theorem q552 : (Jvm.Cond.code ({ cls := "java/lang/String", name := "length", desc := "()I" } : Jvm.MethodName) prog_34_method_54_code (1 : Nat) (Option.some Jvm.ClassFile.FieldType.int)) ∈ lw_all := lw_g (lw_at lw_m2 173 rfl) rfl
theorem q553 : (Jvm.Cond.methodLink "java/lang/String" (335 : Nat) ({ cls := "java/lang/String", name := "coder", desc := "()B" } : Jvm.MethodName)) ∈ lw_all := lw_g (lw_at lw_m2 174 rfl) rfl
theorem q554 : (Jvm.Cond.instanceMethod ({ cls := "java/lang/String", name := "coder", desc := "()B" } : Jvm.MethodName)) ∈ lw_all := lw_g (lw_at lw_m2 175 rfl) rfl
theorem q555 : (Jvm.Cond.selects "java/lang/String" ({ cls := "java/lang/String", name := "coder", desc := "()B" } : Jvm.MethodName) ({ cls := "java/lang/String", name := "coder", desc := "()B" } : Jvm.MethodName)) ∈ lw_all := lw_g (lw_at lw_m2 176 rfl) rfl
theorem q556 : (Jvm.Cond.code ({ cls := "java/lang/String", name := "coder", desc := "()B" } : Jvm.MethodName) prog_34_method_152_code (1 : Nat) (Option.some Jvm.ClassFile.FieldType.byte)) ∈ lw_all := lw_g (lw_at lw_m2 177 rfl) rfl
theorem q557 : (Jvm.Cond.fieldLink "java/lang/String" (38 : Nat) "java/lang/String" "COMPACT_STRINGS" "Z") ∈ lw_all := lw_g (lw_at lw_m2 178 rfl) rfl
theorem q558 : (Jvm.Cond.laysStatic "java/lang/String" "COMPACT_STRINGS" "Z") ∈ lw_tbl := lw_at lw_m2 179 rfl
theorem q560 : (Jvm.Cond.instanceMethod ({ cls := "java/lang/String", name := "charAt", desc := "(I)C" } : Jvm.MethodName)) ∈ lw_all := lw_g (lw_at lw_m2 181 rfl) rfl
theorem q561 : (Jvm.Cond.selects "java/lang/String" ({ cls := "java/lang/String", name := "charAt", desc := "(I)C" } : Jvm.MethodName) ({ cls := "java/lang/String", name := "charAt", desc := "(I)C" } : Jvm.MethodName)) ∈ lw_all := lw_g (lw_at lw_m2 182 rfl) rfl
theorem q562 : (Jvm.Cond.code ({ cls := "java/lang/String", name := "charAt", desc := "(I)C" } : Jvm.MethodName) prog_34_method_56_code (2 : Nat) (Option.some Jvm.ClassFile.FieldType.char)) ∈ lw_all := lw_g (lw_at lw_m2 183 rfl) rfl
theorem q563 : (Jvm.Cond.methodLink "java/lang/String" (492 : Nat) ({ cls := "java/lang/String", name := "isLatin1", desc := "()Z" } : Jvm.MethodName)) ∈ lw_all := lw_g (lw_at lw_m2 184 rfl) rfl
theorem q564 : (Jvm.Cond.instanceMethod ({ cls := "java/lang/String", name := "isLatin1", desc := "()Z" } : Jvm.MethodName)) ∈ lw_all := lw_g (lw_at lw_m2 185 rfl) rfl
theorem q565 : (Jvm.Cond.selects "java/lang/String" ({ cls := "java/lang/String", name := "isLatin1", desc := "()Z" } : Jvm.MethodName) ({ cls := "java/lang/String", name := "isLatin1", desc := "()Z" } : Jvm.MethodName)) ∈ lw_all := lw_g (lw_at lw_m2 186 rfl) rfl
theorem q566 : (Jvm.Cond.code ({ cls := "java/lang/String", name := "isLatin1", desc := "()Z" } : Jvm.MethodName) prog_34_method_154_code (1 : Nat) (Option.some Jvm.ClassFile.FieldType.boolean)) ∈ lw_all := lw_g (lw_at lw_m2 187 rfl) rfl
theorem q567 : (Jvm.Cond.methodLink "java/lang/String" (495 : Nat) ({ cls := "java/lang/StringLatin1", name := "charAt", desc := "([BI)C" } : Jvm.MethodName)) ∈ lw_all := lw_g (lw_at lw_m2 188 rfl) rfl
theorem q571 : (Jvm.Cond.static ({ cls := "java/lang/String", name := "checkIndex", desc := "(II)V" } : Jvm.MethodName)) ∈ lw_all := lw_g (lw_at lw_m2 192 rfl) rfl
theorem q572 : (Jvm.Cond.code ({ cls := "java/lang/String", name := "checkIndex", desc := "(II)V" } : Jvm.MethodName) prog_34_method_155_code (2 : Nat) (Option.none : Option Jvm.ClassFile.FieldType)) ∈ lw_all := lw_g (lw_at lw_m2 193 rfl) rfl
theorem q573 : (Jvm.Cond.fieldLink "java/lang/String" (1053 : Nat) "jdk/internal/util/Preconditions" "SIOOBE_FORMATTER" "Ljava/util/function/BiFunction;") ∈ lw_all := lw_g (lw_at lw_m2 194 rfl) rfl
theorem q575 : (Jvm.Cond.methodLink "java/lang/String" (1059 : Nat) ({ cls := "jdk/internal/util/Preconditions", name := "checkIndex", desc := "(IILjava/util/function/BiFunction;)I" } : Jvm.MethodName)) ∈ lw_all := lw_g (lw_at lw_m2 196 rfl) rfl
theorem q578 : (Jvm.Cond.methodLink "java/lang/String" (498 : Nat) ({ cls := "java/lang/StringUTF16", name := "charAt", desc := "([BI)C" } : Jvm.MethodName)) ∈ lw_all := lw_g (lw_at lw_m2 199 rfl) rfl
theorem q1685 : (Jvm.Cond.instantiable "java/lang/String" (4 : Nat)) ∈ lw_all := lw_g (lw_at lw_m7 106 rfl) rfl
theorem q1686 : (Jvm.Cond.laysFinal "java/lang/String" "java/lang/String" "value" "[B") ∈ lw_all := lw_g (lw_at lw_m7 107 rfl) rfl
theorem q1687 : (Jvm.Cond.soleField "java/lang/String" "value") ∈ lw_all := lw_g (lw_at lw_m7 108 rfl) rfl
theorem q1688 : (Jvm.Cond.laysFinal "java/lang/String" "java/lang/String" "coder" "B") ∈ lw_all := lw_g (lw_at lw_m7 109 rfl) rfl
theorem q1689 : (Jvm.Cond.soleField "java/lang/String" "coder") ∈ lw_all := lw_g (lw_at lw_m7 110 rfl) rfl
theorem q2561 : (Jvm.Cond.castable "java/lang/String" "java/lang/Object") ∈ lw_tbl := lw_at lw_m11 22 rfl
theorem q2573 : (Jvm.Cond.fieldLink "java/lang/String" (9 : Nat) "java/lang/String" "value" "[B") ∈ lw_all := lw_g (lw_at lw_m11 34 rfl) rfl
theorem q2574 : (Jvm.Cond.fieldLink "java/lang/String" (15 : Nat) "java/lang/String" "coder" "B") ∈ lw_all := lw_g (lw_at lw_m11 35 rfl) rfl
theorem in_J4 : ∀ w ∈ wsJ40, w ∈ lw_all := lw_in wsJ40 [1686, 1688] (by decide +kernel) (by decide +kernel)

/-! java/lang/StringLatin1 -/
set_option maxRecDepth 100000
def RJ5 : String := "java/lang/StringLatin1"
abbrev cJ5_charAt : ByteArray := prog_35_method_2_code
def yJ5_charAt : MethodName := ⟨RJ5, "charAt", "([BI)C"⟩
def dkwJ5_charAt_0 : List UInt8 := [27, 42, 190, 184, 0, 9, 42, 27, 51, 17, 0, 255, 126, 146, 172]
abbrev dktJ5_charAt_0 : List UInt8 := dkwJ5_charAt_0 ++ []
theorem dksJ5_charAt_0 : cJ5_charAt.data.toList.drop 0 = dktJ5_charAt_0 := by decide +kernel
theorem dJ5_charAt_0 : decode cJ5_charAt 0 = .ok (.iload_n 1, 1) := dk_27 (dk_at dksJ5_charAt_0 0 rfl rfl)
theorem dJ5_charAt_1 : decode cJ5_charAt 1 = .ok (.aload_n 0, 1) := dk_42 (dk_at dksJ5_charAt_0 1 rfl rfl)
theorem dJ5_charAt_2 : decode cJ5_charAt 2 = .ok (.arraylength, 1) := dk_190 (dk_at dksJ5_charAt_0 2 rfl rfl)
theorem dJ5_charAt_3 : decode cJ5_charAt 3 = .ok (.invokestatic 9, 3) := dk_184 0 9 (dk_at dksJ5_charAt_0 3 rfl rfl)
theorem dJ5_charAt_6 : decode cJ5_charAt 6 = .ok (.aload_n 0, 1) := dk_42 (dk_at dksJ5_charAt_0 6 rfl rfl)
theorem dJ5_charAt_7 : decode cJ5_charAt 7 = .ok (.iload_n 1, 1) := dk_27 (dk_at dksJ5_charAt_0 7 rfl rfl)
theorem dJ5_charAt_8 : decode cJ5_charAt 8 = .ok (.baload, 1) := dk_51 (dk_at dksJ5_charAt_0 8 rfl rfl)
theorem dJ5_charAt_9 : decode cJ5_charAt 9 = .ok (.sipush 255, 3) := dk_17 0 255 (dk_at dksJ5_charAt_0 9 rfl rfl)
theorem dJ5_charAt_12 : decode cJ5_charAt 12 = .ok (.iand, 1) := dk_126 (dk_at dksJ5_charAt_0 12 rfl rfl)
theorem dJ5_charAt_13 : decode cJ5_charAt 13 = .ok (.i2c, 1) := dk_146 (dk_at dksJ5_charAt_0 13 rfl rfl)
theorem dJ5_charAt_14 : decode cJ5_charAt 14 = .ok (.ireturn, 1) := dk_172 (dk_at dksJ5_charAt_0 14 rfl rfl)
theorem q155 : (Jvm.Cond.initialized "java/lang/StringLatin1") ∈ lw_all := lw_g (lw_at lw_m1 16 rfl) rfl
theorem q568 : (Jvm.Cond.static ({ cls := "java/lang/StringLatin1", name := "charAt", desc := "([BI)C" } : Jvm.MethodName)) ∈ lw_all := lw_g (lw_at lw_m2 189 rfl) rfl
theorem q569 : (Jvm.Cond.code ({ cls := "java/lang/StringLatin1", name := "charAt", desc := "([BI)C" } : Jvm.MethodName) prog_35_method_2_code (2 : Nat) (Option.some Jvm.ClassFile.FieldType.char)) ∈ lw_all := lw_g (lw_at lw_m2 190 rfl) rfl
theorem q570 : (Jvm.Cond.methodLink "java/lang/StringLatin1" (9 : Nat) ({ cls := "java/lang/String", name := "checkIndex", desc := "(II)V" } : Jvm.MethodName)) ∈ lw_all := lw_g (lw_at lw_m2 191 rfl) rfl

/-! jdk/internal/util/Preconditions -/
set_option maxRecDepth 100000
def RJ6 : String := "jdk/internal/util/Preconditions"
abbrev cJ6_checkIndex : ByteArray := prog_49_method_11_code
def yJ6_checkIndex : MethodName := ⟨RJ6, "checkIndex", "(IILjava/util/function/BiFunction;)I"⟩
def dkwJ6_checkIndex_0 : List UInt8 := [26, 155, 0, 8, 26, 27, 161, 0, 10, 44, 26, 27, 184, 0, 95, 191, 26, 172]
abbrev dktJ6_checkIndex_0 : List UInt8 := dkwJ6_checkIndex_0 ++ []
theorem dksJ6_checkIndex_0 : cJ6_checkIndex.data.toList.drop 0 = dktJ6_checkIndex_0 := by decide +kernel
theorem dJ6_checkIndex_0 : decode cJ6_checkIndex 0 = .ok (.iload_n 0, 1) := dk_26 (dk_at dksJ6_checkIndex_0 0 rfl rfl)
theorem dJ6_checkIndex_1 : decode cJ6_checkIndex 1 = .ok (.ifCond .lt 8, 3) := dk_155 0 8 (dk_at dksJ6_checkIndex_0 1 rfl rfl)
theorem dJ6_checkIndex_4 : decode cJ6_checkIndex 4 = .ok (.iload_n 0, 1) := dk_26 (dk_at dksJ6_checkIndex_0 4 rfl rfl)
theorem dJ6_checkIndex_5 : decode cJ6_checkIndex 5 = .ok (.iload_n 1, 1) := dk_27 (dk_at dksJ6_checkIndex_0 5 rfl rfl)
theorem dJ6_checkIndex_6 : decode cJ6_checkIndex 6 = .ok (.if_icmp .lt 10, 3) := dk_161 0 10 (dk_at dksJ6_checkIndex_0 6 rfl rfl)
theorem dJ6_checkIndex_9 : decode cJ6_checkIndex 9 = .ok (.aload_n 2, 1) := dk_44 (dk_at dksJ6_checkIndex_0 9 rfl rfl)
theorem dJ6_checkIndex_10 : decode cJ6_checkIndex 10 = .ok (.iload_n 0, 1) := dk_26 (dk_at dksJ6_checkIndex_0 10 rfl rfl)
theorem dJ6_checkIndex_11 : decode cJ6_checkIndex 11 = .ok (.iload_n 1, 1) := dk_27 (dk_at dksJ6_checkIndex_0 11 rfl rfl)
theorem dJ6_checkIndex_12 : decode cJ6_checkIndex 12 = .ok (.invokestatic 95, 3) := dk_184 0 95 (dk_at dksJ6_checkIndex_0 12 rfl rfl)
theorem dJ6_checkIndex_15 : decode cJ6_checkIndex 15 = .ok (.athrow, 1) := dk_191 (dk_at dksJ6_checkIndex_0 15 rfl rfl)
theorem dJ6_checkIndex_16 : decode cJ6_checkIndex 16 = .ok (.iload_n 0, 1) := dk_26 (dk_at dksJ6_checkIndex_0 16 rfl rfl)
theorem dJ6_checkIndex_17 : decode cJ6_checkIndex 17 = .ok (.ireturn, 1) := dk_172 (dk_at dksJ6_checkIndex_0 17 rfl rfl)
theorem q156 : (Jvm.Cond.initialized "jdk/internal/util/Preconditions") ∈ lw_all := lw_g (lw_at lw_m1 17 rfl) rfl
theorem q574 : (Jvm.Cond.laysStatic "jdk/internal/util/Preconditions" "SIOOBE_FORMATTER" "Ljava/util/function/BiFunction;") ∈ lw_tbl := lw_at lw_m2 195 rfl
theorem q576 : (Jvm.Cond.static ({ cls := "jdk/internal/util/Preconditions", name := "checkIndex", desc := "(IILjava/util/function/BiFunction;)I" } : Jvm.MethodName)) ∈ lw_all := lw_g (lw_at lw_m2 197 rfl) rfl
theorem q577 : (Jvm.Cond.code ({ cls := "jdk/internal/util/Preconditions", name := "checkIndex", desc := "(IILjava/util/function/BiFunction;)I" } : Jvm.MethodName) prog_49_method_11_code (3 : Nat) (Option.some Jvm.ClassFile.FieldType.int)) ∈ lw_all := lw_g (lw_at lw_m2 198 rfl) rfl

/-! java/lang/StringUTF16 -/
set_option maxRecDepth 100000
def RJ7 : String := "java/lang/StringUTF16"
abbrev cJ7_charAt : ByteArray := prog_36_method_83_code
def yJ7_charAt : MethodName := ⟨RJ7, "charAt", "([BI)C"⟩
def dkwJ7_charAt_0 : List UInt8 := [27, 42, 184, 0, 67, 42, 27, 184, 0, 71, 172]
abbrev dktJ7_charAt_0 : List UInt8 := dkwJ7_charAt_0 ++ []
theorem dksJ7_charAt_0 : cJ7_charAt.data.toList.drop 0 = dktJ7_charAt_0 := by decide +kernel
theorem dJ7_charAt_0 : decode cJ7_charAt 0 = .ok (.iload_n 1, 1) := dk_27 (dk_at dksJ7_charAt_0 0 rfl rfl)
theorem dJ7_charAt_1 : decode cJ7_charAt 1 = .ok (.aload_n 0, 1) := dk_42 (dk_at dksJ7_charAt_0 1 rfl rfl)
theorem dJ7_charAt_2 : decode cJ7_charAt 2 = .ok (.invokestatic 67, 3) := dk_184 0 67 (dk_at dksJ7_charAt_0 2 rfl rfl)
theorem dJ7_charAt_5 : decode cJ7_charAt 5 = .ok (.aload_n 0, 1) := dk_42 (dk_at dksJ7_charAt_0 5 rfl rfl)
theorem dJ7_charAt_6 : decode cJ7_charAt 6 = .ok (.iload_n 1, 1) := dk_27 (dk_at dksJ7_charAt_0 6 rfl rfl)
theorem dJ7_charAt_7 : decode cJ7_charAt 7 = .ok (.invokestatic 71, 3) := dk_184 0 71 (dk_at dksJ7_charAt_0 7 rfl rfl)
theorem dJ7_charAt_10 : decode cJ7_charAt 10 = .ok (.ireturn, 1) := dk_172 (dk_at dksJ7_charAt_0 10 rfl rfl)
abbrev cJ7_checkIndex : ByteArray := prog_36_method_91_code
def yJ7_checkIndex : MethodName := ⟨RJ7, "checkIndex", "(I[B)V"⟩
def dkwJ7_checkIndex_0 : List UInt8 := [26, 43, 184, 0, 48, 184, 1, 158, 177]
abbrev dktJ7_checkIndex_0 : List UInt8 := dkwJ7_checkIndex_0 ++ []
theorem dksJ7_checkIndex_0 : cJ7_checkIndex.data.toList.drop 0 = dktJ7_checkIndex_0 := by decide +kernel
theorem dJ7_checkIndex_0 : decode cJ7_checkIndex 0 = .ok (.iload_n 0, 1) := dk_26 (dk_at dksJ7_checkIndex_0 0 rfl rfl)
theorem dJ7_checkIndex_1 : decode cJ7_checkIndex 1 = .ok (.aload_n 1, 1) := dk_43 (dk_at dksJ7_checkIndex_0 1 rfl rfl)
theorem dJ7_checkIndex_2 : decode cJ7_checkIndex 2 = .ok (.invokestatic 48, 3) := dk_184 0 48 (dk_at dksJ7_checkIndex_0 2 rfl rfl)
theorem dJ7_checkIndex_5 : decode cJ7_checkIndex 5 = .ok (.invokestatic 414, 3) := dk_184 1 158 (dk_at dksJ7_checkIndex_0 5 rfl rfl)
theorem dJ7_checkIndex_8 : decode cJ7_checkIndex 8 = .ok (.return_, 1) := dk_177 (dk_at dksJ7_checkIndex_0 8 rfl rfl)
abbrev cJ7_length : ByteArray := prog_36_method_6_code
def yJ7_length : MethodName := ⟨RJ7, "length", "([B)I"⟩
def dkwJ7_length_0 : List UInt8 := [42, 190, 4, 122, 172]
abbrev dktJ7_length_0 : List UInt8 := dkwJ7_length_0 ++ []
theorem dksJ7_length_0 : cJ7_length.data.toList.drop 0 = dktJ7_length_0 := by decide +kernel
theorem dJ7_length_0 : decode cJ7_length 0 = .ok (.aload_n 0, 1) := dk_42 (dk_at dksJ7_length_0 0 rfl rfl)
theorem dJ7_length_1 : decode cJ7_length 1 = .ok (.arraylength, 1) := dk_190 (dk_at dksJ7_length_0 1 rfl rfl)
theorem dJ7_length_2 : decode cJ7_length 2 = .ok (.iconst 1, 1) := dk_4 (dk_at dksJ7_length_0 2 rfl rfl)
theorem dJ7_length_3 : decode cJ7_length 3 = .ok (.ishr, 1) := dk_122 (dk_at dksJ7_length_0 3 rfl rfl)
theorem dJ7_length_4 : decode cJ7_length 4 = .ok (.ireturn, 1) := dk_172 (dk_at dksJ7_length_0 4 rfl rfl)
abbrev cJ7_getChar : ByteArray := prog_36_method_5_code
def yJ7_getChar : MethodName := ⟨RJ7, "getChar", "([BI)C"⟩
def dkwJ7_getChar_2 : List UInt8 := [51, 17, 0, 255, 126, 178, 0, 63, 120, 128, 146, 172]
abbrev dktJ7_getChar_2 : List UInt8 := dkwJ7_getChar_2 ++ []
def dkwJ7_getChar_1 : List UInt8 := [183, 0, 56, 191, 27, 4, 120, 60, 42, 27, 132, 1, 1, 51, 17, 0, 255, 126, 178, 0, 59, 120, 42, 27]
abbrev dktJ7_getChar_1 : List UInt8 := dkwJ7_getChar_1 ++ dktJ7_getChar_2
def dkwJ7_getChar_0 : List UInt8 := [178, 0, 44, 154, 0, 25, 27, 155, 0, 11, 27, 42, 184, 0, 48, 161, 0, 13, 187, 0, 52, 89, 18, 54]
abbrev dktJ7_getChar_0 : List UInt8 := dkwJ7_getChar_0 ++ dktJ7_getChar_1
theorem dksJ7_getChar_0 : cJ7_getChar.data.toList.drop 0 = dktJ7_getChar_0 := by decide +kernel
theorem dksJ7_getChar_1 : cJ7_getChar.data.toList.drop 24 = dktJ7_getChar_1 := dk_seg dksJ7_getChar_0 24 rfl rfl
theorem dksJ7_getChar_2 : cJ7_getChar.data.toList.drop 48 = dktJ7_getChar_2 := dk_seg dksJ7_getChar_1 24 rfl rfl
theorem dJ7_getChar_0 : decode cJ7_getChar 0 = .ok (.getstatic 44, 3) := dk_178 0 44 (dk_at dksJ7_getChar_0 0 rfl rfl)
theorem dJ7_getChar_3 : decode cJ7_getChar 3 = .ok (.ifCond .ne 25, 3) := dk_154 0 25 (dk_at dksJ7_getChar_0 3 rfl rfl)
theorem dJ7_getChar_6 : decode cJ7_getChar 6 = .ok (.iload_n 1, 1) := dk_27 (dk_at dksJ7_getChar_0 6 rfl rfl)
theorem dJ7_getChar_7 : decode cJ7_getChar 7 = .ok (.ifCond .lt 11, 3) := dk_155 0 11 (dk_at dksJ7_getChar_0 7 rfl rfl)
theorem dJ7_getChar_10 : decode cJ7_getChar 10 = .ok (.iload_n 1, 1) := dk_27 (dk_at dksJ7_getChar_0 10 rfl rfl)
theorem dJ7_getChar_11 : decode cJ7_getChar 11 = .ok (.aload_n 0, 1) := dk_42 (dk_at dksJ7_getChar_0 11 rfl rfl)
theorem dJ7_getChar_12 : decode cJ7_getChar 12 = .ok (.invokestatic 48, 3) := dk_184 0 48 (dk_at dksJ7_getChar_0 12 rfl rfl)
theorem dJ7_getChar_15 : decode cJ7_getChar 15 = .ok (.if_icmp .lt 13, 3) := dk_161 0 13 (dk_at dksJ7_getChar_0 15 rfl rfl)
theorem dJ7_getChar_18 : decode cJ7_getChar 18 = .ok (.new 52, 3) := dk_187 0 52 (dk_at dksJ7_getChar_0 18 rfl rfl)
theorem dJ7_getChar_21 : decode cJ7_getChar 21 = .ok (.dup, 1) := dk_89 (dk_at dksJ7_getChar_0 21 rfl rfl)
theorem dJ7_getChar_22 : decode cJ7_getChar 22 = .ok (.ldc 54, 2) := dk_18 54 (dk_at dksJ7_getChar_0 22 rfl rfl)
theorem dJ7_getChar_24 : decode cJ7_getChar 24 = .ok (.invokespecial 56, 3) := dk_183 0 56 (dk_at dksJ7_getChar_1 0 rfl rfl)
theorem dJ7_getChar_27 : decode cJ7_getChar 27 = .ok (.athrow, 1) := dk_191 (dk_at dksJ7_getChar_1 3 rfl rfl)
theorem dJ7_getChar_28 : decode cJ7_getChar 28 = .ok (.iload_n 1, 1) := dk_27 (dk_at dksJ7_getChar_1 4 rfl rfl)
theorem dJ7_getChar_29 : decode cJ7_getChar 29 = .ok (.iconst 1, 1) := dk_4 (dk_at dksJ7_getChar_1 5 rfl rfl)
theorem dJ7_getChar_30 : decode cJ7_getChar 30 = .ok (.ishl, 1) := dk_120 (dk_at dksJ7_getChar_1 6 rfl rfl)
theorem dJ7_getChar_31 : decode cJ7_getChar 31 = .ok (.istore_n 1, 1) := dk_60 (dk_at dksJ7_getChar_1 7 rfl rfl)
theorem dJ7_getChar_32 : decode cJ7_getChar 32 = .ok (.aload_n 0, 1) := dk_42 (dk_at dksJ7_getChar_1 8 rfl rfl)
theorem dJ7_getChar_33 : decode cJ7_getChar 33 = .ok (.iload_n 1, 1) := dk_27 (dk_at dksJ7_getChar_1 9 rfl rfl)
theorem dJ7_getChar_34 : decode cJ7_getChar 34 = .ok (.iinc 1 1, 3) := dk_132 1 1 (dk_at dksJ7_getChar_1 10 rfl rfl)
theorem dJ7_getChar_37 : decode cJ7_getChar 37 = .ok (.baload, 1) := dk_51 (dk_at dksJ7_getChar_1 13 rfl rfl)
theorem dJ7_getChar_38 : decode cJ7_getChar 38 = .ok (.sipush 255, 3) := dk_17 0 255 (dk_at dksJ7_getChar_1 14 rfl rfl)
theorem dJ7_getChar_41 : decode cJ7_getChar 41 = .ok (.iand, 1) := dk_126 (dk_at dksJ7_getChar_1 17 rfl rfl)
theorem dJ7_getChar_42 : decode cJ7_getChar 42 = .ok (.getstatic 59, 3) := dk_178 0 59 (dk_at dksJ7_getChar_1 18 rfl rfl)
theorem dJ7_getChar_45 : decode cJ7_getChar 45 = .ok (.ishl, 1) := dk_120 (dk_at dksJ7_getChar_1 21 rfl rfl)
theorem dJ7_getChar_46 : decode cJ7_getChar 46 = .ok (.aload_n 0, 1) := dk_42 (dk_at dksJ7_getChar_1 22 rfl rfl)
theorem dJ7_getChar_47 : decode cJ7_getChar 47 = .ok (.iload_n 1, 1) := dk_27 (dk_at dksJ7_getChar_1 23 rfl rfl)
theorem dJ7_getChar_48 : decode cJ7_getChar 48 = .ok (.baload, 1) := dk_51 (dk_at dksJ7_getChar_2 0 rfl rfl)
theorem dJ7_getChar_49 : decode cJ7_getChar 49 = .ok (.sipush 255, 3) := dk_17 0 255 (dk_at dksJ7_getChar_2 1 rfl rfl)
theorem dJ7_getChar_52 : decode cJ7_getChar 52 = .ok (.iand, 1) := dk_126 (dk_at dksJ7_getChar_2 4 rfl rfl)
theorem dJ7_getChar_53 : decode cJ7_getChar 53 = .ok (.getstatic 63, 3) := dk_178 0 63 (dk_at dksJ7_getChar_2 5 rfl rfl)
theorem dJ7_getChar_56 : decode cJ7_getChar 56 = .ok (.ishl, 1) := dk_120 (dk_at dksJ7_getChar_2 8 rfl rfl)
theorem dJ7_getChar_57 : decode cJ7_getChar 57 = .ok (.ior, 1) := dk_128 (dk_at dksJ7_getChar_2 9 rfl rfl)
theorem dJ7_getChar_58 : decode cJ7_getChar 58 = .ok (.i2c, 1) := dk_146 (dk_at dksJ7_getChar_2 10 rfl rfl)
theorem dJ7_getChar_59 : decode cJ7_getChar 59 = .ok (.ireturn, 1) := dk_172 (dk_at dksJ7_getChar_2 11 rfl rfl)
theorem q157 : (Jvm.Cond.initialized "java/lang/StringUTF16") ∈ lw_all := lw_g (lw_at lw_m1 18 rfl) rfl
theorem q579 : (Jvm.Cond.static ({ cls := "java/lang/StringUTF16", name := "charAt", desc := "([BI)C" } : Jvm.MethodName)) ∈ lw_all := lw_g (lw_at lw_m2 200 rfl) rfl
theorem q580 : (Jvm.Cond.code ({ cls := "java/lang/StringUTF16", name := "charAt", desc := "([BI)C" } : Jvm.MethodName) prog_36_method_83_code (2 : Nat) (Option.some Jvm.ClassFile.FieldType.char)) ∈ lw_all := lw_g (lw_at lw_m2 201 rfl) rfl
theorem q581 : (Jvm.Cond.methodLink "java/lang/StringUTF16" (67 : Nat) ({ cls := "java/lang/StringUTF16", name := "checkIndex", desc := "(I[B)V" } : Jvm.MethodName)) ∈ lw_all := lw_g (lw_at lw_m2 202 rfl) rfl
theorem q582 : (Jvm.Cond.static ({ cls := "java/lang/StringUTF16", name := "checkIndex", desc := "(I[B)V" } : Jvm.MethodName)) ∈ lw_all := lw_g (lw_at lw_m2 203 rfl) rfl
theorem q583 : (Jvm.Cond.code ({ cls := "java/lang/StringUTF16", name := "checkIndex", desc := "(I[B)V" } : Jvm.MethodName) prog_36_method_91_code (2 : Nat) (Option.none : Option Jvm.ClassFile.FieldType)) ∈ lw_all := lw_g (lw_at lw_m2 204 rfl) rfl
theorem q584 : (Jvm.Cond.methodLink "java/lang/StringUTF16" (48 : Nat) ({ cls := "java/lang/StringUTF16", name := "length", desc := "([B)I" } : Jvm.MethodName)) ∈ lw_all := lw_g (lw_at lw_m2 205 rfl) rfl
theorem q585 : (Jvm.Cond.static ({ cls := "java/lang/StringUTF16", name := "length", desc := "([B)I" } : Jvm.MethodName)) ∈ lw_all := lw_g (lw_at lw_m2 206 rfl) rfl
theorem q586 : (Jvm.Cond.code ({ cls := "java/lang/StringUTF16", name := "length", desc := "([B)I" } : Jvm.MethodName) prog_36_method_6_code (1 : Nat) (Option.some Jvm.ClassFile.FieldType.int)) ∈ lw_all := lw_g (lw_at lw_m2 207 rfl) rfl
theorem q587 : (Jvm.Cond.methodLink "java/lang/StringUTF16" (414 : Nat) ({ cls := "java/lang/String", name := "checkIndex", desc := "(II)V" } : Jvm.MethodName)) ∈ lw_all := lw_g (lw_at lw_m2 208 rfl) rfl
theorem q588 : (Jvm.Cond.methodLink "java/lang/StringUTF16" (71 : Nat) ({ cls := "java/lang/StringUTF16", name := "getChar", desc := "([BI)C" } : Jvm.MethodName)) ∈ lw_all := lw_g (lw_at lw_m2 209 rfl) rfl
theorem q589 : (Jvm.Cond.static ({ cls := "java/lang/StringUTF16", name := "getChar", desc := "([BI)C" } : Jvm.MethodName)) ∈ lw_all := lw_g (lw_at lw_m2 210 rfl) rfl
theorem q590 : (Jvm.Cond.code ({ cls := "java/lang/StringUTF16", name := "getChar", desc := "([BI)C" } : Jvm.MethodName) prog_36_method_5_code (2 : Nat) (Option.some Jvm.ClassFile.FieldType.char)) ∈ lw_all := lw_g (lw_at lw_m2 211 rfl) rfl
theorem q591 : (Jvm.Cond.fieldLink "java/lang/StringUTF16" (44 : Nat) "java/lang/StringUTF16" "$assertionsDisabled" "Z") ∈ lw_all := lw_g (lw_at lw_m2 212 rfl) rfl
theorem q592 : (Jvm.Cond.laysStatic "java/lang/StringUTF16" "$assertionsDisabled" "Z") ∈ lw_tbl := lw_at lw_m2 213 rfl
theorem q593 : (Jvm.Cond.fieldLink "java/lang/StringUTF16" (59 : Nat) "java/lang/StringUTF16" "HI_BYTE_SHIFT" "I") ∈ lw_all := lw_g (lw_at lw_m2 214 rfl) rfl
theorem q594 : (Jvm.Cond.laysStatic "java/lang/StringUTF16" "HI_BYTE_SHIFT" "I") ∈ lw_tbl := lw_at lw_m2 215 rfl
theorem q595 : (Jvm.Cond.fieldLink "java/lang/StringUTF16" (63 : Nat) "java/lang/StringUTF16" "LO_BYTE_SHIFT" "I") ∈ lw_all := lw_g (lw_at lw_m2 216 rfl) rfl
theorem q596 : (Jvm.Cond.laysStatic "java/lang/StringUTF16" "LO_BYTE_SHIFT" "I") ∈ lw_tbl := lw_at lw_m2 217 rfl

/-! java/lang/Throwable -/
set_option maxRecDepth 100000
def RJ8 : String := "java/lang/Throwable"
def TJ8 : u_T := fun k => match k with
  | 0 => ("java/lang/Throwable", "cause", "Ljava/lang/Throwable;", false)
  | 1 => ("java/lang/Throwable", "stackTrace", "[Ljava/lang/StackTraceElement;", false)
  | 2 => ("java/lang/Throwable", "suppressedExceptions", "Ljava/util/List;", false)
  | 3 => ("java/lang/Throwable", "detailMessage", "Ljava/lang/String;", false)
  | _ => ("java/lang/Throwable", "backtrace", "Ljava/lang/Object;", false)
def tyJ8 : Nat → FieldType := fun k => match k with
  | 0 => .object "java/lang/Throwable"
  | 1 => .array (.object "java/lang/StackTraceElement")
  | 2 => .object "java/util/List"
  | 3 => .object "java/lang/String"
  | _ => .object "java/lang/Object"
abbrev wsJ80 : List Cond := u_ws RJ8 TJ8 5
theorem nmJ8 : ∀ a, a < 5 → ∀ b, b < 5 → a ≠ b → (TJ8 a).2.1 ≠ (TJ8 b).2.1 := by decide +kernel
theorem tyJ8_ok : ∀ k, k < 5 → parseFieldDescriptor (TJ8 k).2.2.1 = some (tyJ8 k) := by decide +kernel
abbrev cJ8_init : ByteArray := prog_38_method_1_code
def yJ8_init : MethodName := ⟨RJ8, "<init>", "()V"⟩
def dkwJ8_init_1 : List UInt8 := [182, 0, 27, 87, 177]
abbrev dktJ8_init_1 : List UInt8 := dkwJ8_init_1 ++ []
def dkwJ8_init_0 : List UInt8 := [42, 183, 0, 1, 42, 42, 181, 0, 7, 42, 178, 0, 13, 181, 0, 17, 42, 178, 0, 20, 181, 0, 24, 42]
abbrev dktJ8_init_0 : List UInt8 := dkwJ8_init_0 ++ dktJ8_init_1
theorem dksJ8_init_0 : cJ8_init.data.toList.drop 0 = dktJ8_init_0 := by decide +kernel
theorem dksJ8_init_1 : cJ8_init.data.toList.drop 24 = dktJ8_init_1 := dk_seg dksJ8_init_0 24 rfl rfl
theorem dJ8_init_0 : decode cJ8_init 0 = .ok (.aload_n 0, 1) := dk_42 (dk_at dksJ8_init_0 0 rfl rfl)
theorem dJ8_init_1 : decode cJ8_init 1 = .ok (.invokespecial 1, 3) := dk_183 0 1 (dk_at dksJ8_init_0 1 rfl rfl)
theorem dJ8_init_4 : decode cJ8_init 4 = .ok (.aload_n 0, 1) := dk_42 (dk_at dksJ8_init_0 4 rfl rfl)
theorem dJ8_init_5 : decode cJ8_init 5 = .ok (.aload_n 0, 1) := dk_42 (dk_at dksJ8_init_0 5 rfl rfl)
theorem dJ8_init_6 : decode cJ8_init 6 = .ok (.putfield 7, 3) := dk_181 0 7 (dk_at dksJ8_init_0 6 rfl rfl)
theorem dJ8_init_9 : decode cJ8_init 9 = .ok (.aload_n 0, 1) := dk_42 (dk_at dksJ8_init_0 9 rfl rfl)
theorem dJ8_init_10 : decode cJ8_init 10 = .ok (.getstatic 13, 3) := dk_178 0 13 (dk_at dksJ8_init_0 10 rfl rfl)
theorem dJ8_init_13 : decode cJ8_init 13 = .ok (.putfield 17, 3) := dk_181 0 17 (dk_at dksJ8_init_0 13 rfl rfl)
theorem dJ8_init_16 : decode cJ8_init 16 = .ok (.aload_n 0, 1) := dk_42 (dk_at dksJ8_init_0 16 rfl rfl)
theorem dJ8_init_17 : decode cJ8_init 17 = .ok (.getstatic 20, 3) := dk_178 0 20 (dk_at dksJ8_init_0 17 rfl rfl)
theorem dJ8_init_20 : decode cJ8_init 20 = .ok (.putfield 24, 3) := dk_181 0 24 (dk_at dksJ8_init_0 20 rfl rfl)
theorem dJ8_init_23 : decode cJ8_init 23 = .ok (.aload_n 0, 1) := dk_42 (dk_at dksJ8_init_0 23 rfl rfl)
theorem dJ8_init_24 : decode cJ8_init 24 = .ok (.invokevirtual 27, 3) := dk_182 0 27 (dk_at dksJ8_init_1 0 rfl rfl)
theorem dJ8_init_27 : decode cJ8_init 27 = .ok (.pop, 1) := dk_87 (dk_at dksJ8_init_1 3 rfl rfl)
theorem dJ8_init_28 : decode cJ8_init 28 = .ok (.return_, 1) := dk_177 (dk_at dksJ8_init_1 4 rfl rfl)
abbrev cJ8_init_2 : ByteArray := prog_38_method_5_code
def yJ8_init_2 : MethodName := ⟨RJ8, "<init>", "(Ljava/lang/String;Ljava/lang/Throwable;ZZ)V"⟩
def dkwJ8_init_2_2 : List UInt8 := [44, 181, 0, 7, 29, 154, 0, 8, 42, 1, 181, 0, 24, 177]
abbrev dktJ8_init_2_2 : List UInt8 := dkwJ8_init_2_2 ++ []
def dkwJ8_init_2_1 : List UInt8 := [21, 4, 153, 0, 11, 42, 182, 0, 27, 87, 167, 0, 8, 42, 1, 181, 0, 17, 42, 43, 181, 0, 31, 42]
abbrev dktJ8_init_2_1 : List UInt8 := dkwJ8_init_2_1 ++ dktJ8_init_2_2
def dkwJ8_init_2_0 : List UInt8 := [42, 183, 0, 1, 42, 42, 181, 0, 7, 42, 178, 0, 13, 181, 0, 17, 42, 178, 0, 20, 181, 0, 24]
abbrev dktJ8_init_2_0 : List UInt8 := dkwJ8_init_2_0 ++ dktJ8_init_2_1
theorem dksJ8_init_2_0 : cJ8_init_2.data.toList.drop 0 = dktJ8_init_2_0 := by decide +kernel
theorem dksJ8_init_2_1 : cJ8_init_2.data.toList.drop 23 = dktJ8_init_2_1 := dk_seg dksJ8_init_2_0 23 rfl rfl
theorem dksJ8_init_2_2 : cJ8_init_2.data.toList.drop 47 = dktJ8_init_2_2 := dk_seg dksJ8_init_2_1 24 rfl rfl
theorem dJ8_init_2_0 : decode cJ8_init_2 0 = .ok (.aload_n 0, 1) := dk_42 (dk_at dksJ8_init_2_0 0 rfl rfl)
theorem dJ8_init_2_1 : decode cJ8_init_2 1 = .ok (.invokespecial 1, 3) := dk_183 0 1 (dk_at dksJ8_init_2_0 1 rfl rfl)
theorem dJ8_init_2_4 : decode cJ8_init_2 4 = .ok (.aload_n 0, 1) := dk_42 (dk_at dksJ8_init_2_0 4 rfl rfl)
theorem dJ8_init_2_5 : decode cJ8_init_2 5 = .ok (.aload_n 0, 1) := dk_42 (dk_at dksJ8_init_2_0 5 rfl rfl)
theorem dJ8_init_2_6 : decode cJ8_init_2 6 = .ok (.putfield 7, 3) := dk_181 0 7 (dk_at dksJ8_init_2_0 6 rfl rfl)
theorem dJ8_init_2_9 : decode cJ8_init_2 9 = .ok (.aload_n 0, 1) := dk_42 (dk_at dksJ8_init_2_0 9 rfl rfl)
theorem dJ8_init_2_10 : decode cJ8_init_2 10 = .ok (.getstatic 13, 3) := dk_178 0 13 (dk_at dksJ8_init_2_0 10 rfl rfl)
theorem dJ8_init_2_13 : decode cJ8_init_2 13 = .ok (.putfield 17, 3) := dk_181 0 17 (dk_at dksJ8_init_2_0 13 rfl rfl)
theorem dJ8_init_2_16 : decode cJ8_init_2 16 = .ok (.aload_n 0, 1) := dk_42 (dk_at dksJ8_init_2_0 16 rfl rfl)
theorem dJ8_init_2_17 : decode cJ8_init_2 17 = .ok (.getstatic 20, 3) := dk_178 0 20 (dk_at dksJ8_init_2_0 17 rfl rfl)
theorem dJ8_init_2_20 : decode cJ8_init_2 20 = .ok (.putfield 24, 3) := dk_181 0 24 (dk_at dksJ8_init_2_0 20 rfl rfl)
theorem dJ8_init_2_23 : decode cJ8_init_2 23 = .ok (.iload 4, 2) := dk_21 4 (dk_at dksJ8_init_2_1 0 rfl rfl)
theorem dJ8_init_2_25 : decode cJ8_init_2 25 = .ok (.ifCond .eq 11, 3) := dk_153 0 11 (dk_at dksJ8_init_2_1 2 rfl rfl)
theorem dJ8_init_2_28 : decode cJ8_init_2 28 = .ok (.aload_n 0, 1) := dk_42 (dk_at dksJ8_init_2_1 5 rfl rfl)
theorem dJ8_init_2_29 : decode cJ8_init_2 29 = .ok (.invokevirtual 27, 3) := dk_182 0 27 (dk_at dksJ8_init_2_1 6 rfl rfl)
theorem dJ8_init_2_32 : decode cJ8_init_2 32 = .ok (.pop, 1) := dk_87 (dk_at dksJ8_init_2_1 9 rfl rfl)
theorem dJ8_init_2_33 : decode cJ8_init_2 33 = .ok (.goto 8, 3) := dk_167 0 8 (dk_at dksJ8_init_2_1 10 rfl rfl)
theorem dJ8_init_2_36 : decode cJ8_init_2 36 = .ok (.aload_n 0, 1) := dk_42 (dk_at dksJ8_init_2_1 13 rfl rfl)
theorem dJ8_init_2_37 : decode cJ8_init_2 37 = .ok (.aconst_null, 1) := dk_1 (dk_at dksJ8_init_2_1 14 rfl rfl)
theorem dJ8_init_2_38 : decode cJ8_init_2 38 = .ok (.putfield 17, 3) := dk_181 0 17 (dk_at dksJ8_init_2_1 15 rfl rfl)
theorem dJ8_init_2_41 : decode cJ8_init_2 41 = .ok (.aload_n 0, 1) := dk_42 (dk_at dksJ8_init_2_1 18 rfl rfl)
theorem dJ8_init_2_42 : decode cJ8_init_2 42 = .ok (.aload_n 1, 1) := dk_43 (dk_at dksJ8_init_2_1 19 rfl rfl)
theorem dJ8_init_2_43 : decode cJ8_init_2 43 = .ok (.putfield 31, 3) := dk_181 0 31 (dk_at dksJ8_init_2_1 20 rfl rfl)
theorem dJ8_init_2_46 : decode cJ8_init_2 46 = .ok (.aload_n 0, 1) := dk_42 (dk_at dksJ8_init_2_1 23 rfl rfl)
theorem dJ8_init_2_47 : decode cJ8_init_2 47 = .ok (.aload_n 2, 1) := dk_44 (dk_at dksJ8_init_2_2 0 rfl rfl)
theorem dJ8_init_2_48 : decode cJ8_init_2 48 = .ok (.putfield 7, 3) := dk_181 0 7 (dk_at dksJ8_init_2_2 1 rfl rfl)
theorem dJ8_init_2_51 : decode cJ8_init_2 51 = .ok (.iload_n 3, 1) := dk_29 (dk_at dksJ8_init_2_2 4 rfl rfl)
theorem dJ8_init_2_52 : decode cJ8_init_2 52 = .ok (.ifCond .ne 8, 3) := dk_154 0 8 (dk_at dksJ8_init_2_2 5 rfl rfl)
theorem dJ8_init_2_55 : decode cJ8_init_2 55 = .ok (.aload_n 0, 1) := dk_42 (dk_at dksJ8_init_2_2 8 rfl rfl)
theorem dJ8_init_2_56 : decode cJ8_init_2 56 = .ok (.aconst_null, 1) := dk_1 (dk_at dksJ8_init_2_2 9 rfl rfl)
theorem dJ8_init_2_57 : decode cJ8_init_2 57 = .ok (.putfield 24, 3) := dk_181 0 24 (dk_at dksJ8_init_2_2 10 rfl rfl)
theorem dJ8_init_2_60 : decode cJ8_init_2 60 = .ok (.return_, 1) := dk_177 (dk_at dksJ8_init_2_2 13 rfl rfl)
abbrev cJ8_init_3 : ByteArray := prog_38_method_2_code
def yJ8_init_3 : MethodName := ⟨RJ8, "<init>", "(Ljava/lang/String;)V"⟩
def dkwJ8_init_3_1 : List UInt8 := [182, 0, 27, 87, 42, 43, 181, 0, 31, 177]
abbrev dktJ8_init_3_1 : List UInt8 := dkwJ8_init_3_1 ++ []
def dkwJ8_init_3_0 : List UInt8 := [42, 183, 0, 1, 42, 42, 181, 0, 7, 42, 178, 0, 13, 181, 0, 17, 42, 178, 0, 20, 181, 0, 24, 42]
abbrev dktJ8_init_3_0 : List UInt8 := dkwJ8_init_3_0 ++ dktJ8_init_3_1
theorem dksJ8_init_3_0 : cJ8_init_3.data.toList.drop 0 = dktJ8_init_3_0 := by decide +kernel
theorem dksJ8_init_3_1 : cJ8_init_3.data.toList.drop 24 = dktJ8_init_3_1 := dk_seg dksJ8_init_3_0 24 rfl rfl
theorem dJ8_init_3_0 : decode cJ8_init_3 0 = .ok (.aload_n 0, 1) := dk_42 (dk_at dksJ8_init_3_0 0 rfl rfl)
theorem dJ8_init_3_1 : decode cJ8_init_3 1 = .ok (.invokespecial 1, 3) := dk_183 0 1 (dk_at dksJ8_init_3_0 1 rfl rfl)
theorem dJ8_init_3_4 : decode cJ8_init_3 4 = .ok (.aload_n 0, 1) := dk_42 (dk_at dksJ8_init_3_0 4 rfl rfl)
theorem dJ8_init_3_5 : decode cJ8_init_3 5 = .ok (.aload_n 0, 1) := dk_42 (dk_at dksJ8_init_3_0 5 rfl rfl)
theorem dJ8_init_3_6 : decode cJ8_init_3 6 = .ok (.putfield 7, 3) := dk_181 0 7 (dk_at dksJ8_init_3_0 6 rfl rfl)
theorem dJ8_init_3_9 : decode cJ8_init_3 9 = .ok (.aload_n 0, 1) := dk_42 (dk_at dksJ8_init_3_0 9 rfl rfl)
theorem dJ8_init_3_10 : decode cJ8_init_3 10 = .ok (.getstatic 13, 3) := dk_178 0 13 (dk_at dksJ8_init_3_0 10 rfl rfl)
theorem dJ8_init_3_13 : decode cJ8_init_3 13 = .ok (.putfield 17, 3) := dk_181 0 17 (dk_at dksJ8_init_3_0 13 rfl rfl)
theorem dJ8_init_3_16 : decode cJ8_init_3 16 = .ok (.aload_n 0, 1) := dk_42 (dk_at dksJ8_init_3_0 16 rfl rfl)
theorem dJ8_init_3_17 : decode cJ8_init_3 17 = .ok (.getstatic 20, 3) := dk_178 0 20 (dk_at dksJ8_init_3_0 17 rfl rfl)
theorem dJ8_init_3_20 : decode cJ8_init_3 20 = .ok (.putfield 24, 3) := dk_181 0 24 (dk_at dksJ8_init_3_0 20 rfl rfl)
theorem dJ8_init_3_23 : decode cJ8_init_3 23 = .ok (.aload_n 0, 1) := dk_42 (dk_at dksJ8_init_3_0 23 rfl rfl)
theorem dJ8_init_3_24 : decode cJ8_init_3 24 = .ok (.invokevirtual 27, 3) := dk_182 0 27 (dk_at dksJ8_init_3_1 0 rfl rfl)
theorem dJ8_init_3_27 : decode cJ8_init_3 27 = .ok (.pop, 1) := dk_87 (dk_at dksJ8_init_3_1 3 rfl rfl)
theorem dJ8_init_3_28 : decode cJ8_init_3 28 = .ok (.aload_n 0, 1) := dk_42 (dk_at dksJ8_init_3_1 4 rfl rfl)
theorem dJ8_init_3_29 : decode cJ8_init_3 29 = .ok (.aload_n 1, 1) := dk_43 (dk_at dksJ8_init_3_1 5 rfl rfl)
theorem dJ8_init_3_30 : decode cJ8_init_3 30 = .ok (.putfield 31, 3) := dk_181 0 31 (dk_at dksJ8_init_3_1 6 rfl rfl)
theorem dJ8_init_3_33 : decode cJ8_init_3 33 = .ok (.return_, 1) := dk_177 (dk_at dksJ8_init_3_1 9 rfl rfl)
theorem q158 : (Jvm.Cond.initialized "java/lang/Throwable") ∈ lw_all := lw_g (lw_at lw_m1 19 rfl) rfl
theorem q606 : (Jvm.Cond.declares ({ cls := "java/lang/Throwable", name := "<init>", desc := "()V" } : Jvm.MethodName)) ∈ lw_tbl := lw_at lw_m2 227 rfl
theorem q607 : (Jvm.Cond.declares ({ cls := "java/lang/Throwable", name := "<init>", desc := "(Ljava/lang/String;)V" } : Jvm.MethodName)) ∈ lw_tbl := lw_at lw_m2 228 rfl
theorem q611 : (Jvm.Cond.lays "java/lang/Throwable" "java/lang/Throwable" "cause" "Ljava/lang/Throwable;") ∈ lw_all := lw_g (lw_at lw_m2 232 rfl) rfl
theorem q613 : (Jvm.Cond.lays "java/lang/Throwable" "java/lang/Throwable" "stackTrace" "[Ljava/lang/StackTraceElement;") ∈ lw_all := lw_g (lw_at lw_m2 234 rfl) rfl
theorem q615 : (Jvm.Cond.lays "java/lang/Throwable" "java/lang/Throwable" "suppressedExceptions" "Ljava/util/List;") ∈ lw_all := lw_g (lw_at lw_m2 236 rfl) rfl
theorem q617 : (Jvm.Cond.lays "java/lang/Throwable" "java/lang/Throwable" "detailMessage" "Ljava/lang/String;") ∈ lw_all := lw_g (lw_at lw_m2 238 rfl) rfl
theorem q619 : (Jvm.Cond.lays "java/lang/Throwable" "java/lang/Throwable" "backtrace" "Ljava/lang/Object;") ∈ lw_all := lw_g (lw_at lw_m3 0 rfl) rfl
theorem q620 : (Jvm.Cond.fieldLink "java/lang/Throwable" (198 : Nat) "java/lang/Throwable" "backtrace" "Ljava/lang/Object;") ∈ lw_all := lw_g (lw_at lw_m3 1 rfl) rfl
theorem q621 : (Jvm.Cond.superclass "java/lang/Throwable" "java/lang/Object") ∈ lw_all := lw_g (lw_at lw_m3 2 rfl) rfl
theorem q622 : (Jvm.Cond.instanceMethod ({ cls := "java/lang/Throwable", name := "<init>", desc := "()V" } : Jvm.MethodName)) ∈ lw_all := lw_g (lw_at lw_m3 3 rfl) rfl
theorem q623 : (Jvm.Cond.code ({ cls := "java/lang/Throwable", name := "<init>", desc := "()V" } : Jvm.MethodName) prog_38_method_1_code (1 : Nat) (Option.none : Option Jvm.ClassFile.FieldType)) ∈ lw_all := lw_g (lw_at lw_m3 4 rfl) rfl
theorem q624 : (Jvm.Cond.methodLink "java/lang/Throwable" (1 : Nat) ({ cls := "java/lang/Object", name := "<init>", desc := "()V" } : Jvm.MethodName)) ∈ lw_all := lw_g (lw_at lw_m3 5 rfl) rfl
theorem q625 : (Jvm.Cond.fieldLink "java/lang/Throwable" (13 : Nat) "java/lang/Throwable" "UNASSIGNED_STACK" "[Ljava/lang/StackTraceElement;") ∈ lw_all := lw_g (lw_at lw_m3 6 rfl) rfl
theorem q626 : (Jvm.Cond.laysStatic "java/lang/Throwable" "UNASSIGNED_STACK" "[Ljava/lang/StackTraceElement;") ∈ lw_tbl := lw_at lw_m3 7 rfl
theorem q627 : (Jvm.Cond.fieldLink "java/lang/Throwable" (20 : Nat) "java/lang/Throwable" "SUPPRESSED_SENTINEL" "Ljava/util/List;") ∈ lw_all := lw_g (lw_at lw_m3 8 rfl) rfl
theorem q628 : (Jvm.Cond.laysStatic "java/lang/Throwable" "SUPPRESSED_SENTINEL" "Ljava/util/List;") ∈ lw_tbl := lw_at lw_m3 9 rfl
theorem q629 : (Jvm.Cond.methodLink "java/lang/Throwable" (27 : Nat) ({ cls := "java/lang/Throwable", name := "fillInStackTrace", desc := "()Ljava/lang/Throwable;" } : Jvm.MethodName)) ∈ lw_all := lw_g (lw_at lw_m3 10 rfl) rfl
theorem q630 : (Jvm.Cond.instanceMethod ({ cls := "java/lang/Throwable", name := "fillInStackTrace", desc := "()Ljava/lang/Throwable;" } : Jvm.MethodName)) ∈ lw_all := lw_g (lw_at lw_m3 11 rfl) rfl
theorem q631 : (Jvm.Cond.sameMethod "java/lang/Throwable" "java/lang/Throwable" "fillInStackTrace" "()Ljava/lang/Throwable;") ∈ lw_all := lw_g (lw_at lw_m3 12 rfl) rfl
theorem q645 : (Jvm.Cond.declares ({ cls := "java/lang/Throwable", name := "fillInStackTrace", desc := "()Ljava/lang/Throwable;" } : Jvm.MethodName)) ∈ lw_tbl := lw_at lw_m3 26 rfl
theorem q649 : (Jvm.Cond.codeSync ({ cls := "java/lang/Throwable", name := "fillInStackTrace", desc := "()Ljava/lang/Throwable;" } : Jvm.MethodName) prog_38_method_18_code (1 : Nat) (Option.some (Jvm.ClassFile.FieldType.object "java/lang/Throwable"))) ∈ lw_all := lw_g (lw_at lw_m3 30 rfl) rfl
theorem q650 : (Jvm.Cond.methodLink "java/lang/Throwable" (202 : Nat) ({ cls := "java/lang/Throwable", name := "fillInStackTrace", desc := "(I)Ljava/lang/Throwable;" } : Jvm.MethodName)) ∈ lw_all := lw_g (lw_at lw_m3 31 rfl) rfl
theorem q651 : (Jvm.Cond.privateMethod ({ cls := "java/lang/Throwable", name := "fillInStackTrace", desc := "(I)Ljava/lang/Throwable;" } : Jvm.MethodName)) ∈ lw_tbl := lw_at lw_m3 32 rfl
theorem q652 : (Jvm.Cond.instanceMethod ({ cls := "java/lang/Throwable", name := "fillInStackTrace", desc := "(I)Ljava/lang/Throwable;" } : Jvm.MethodName)) ∈ lw_all := lw_g (lw_at lw_m3 33 rfl) rfl
theorem q653 : (Jvm.Cond.instantiable "java/lang/Throwable" (6 : Nat)) ∈ lw_all := lw_g (lw_at lw_m3 34 rfl) rfl
theorem q654 : (Jvm.Cond.native ({ cls := "java/lang/Throwable", name := "fillInStackTrace", desc := "(I)Ljava/lang/Throwable;" } : Jvm.MethodName)) ∈ lw_all := lw_g (lw_at lw_m3 35 rfl) rfl
theorem q662 : (Jvm.Cond.instanceMethod ({ cls := "java/lang/Throwable", name := "<init>", desc := "(Ljava/lang/String;Ljava/lang/Throwable;ZZ)V" } : Jvm.MethodName)) ∈ lw_all := lw_g (lw_at lw_m3 43 rfl) rfl
theorem q663 : (Jvm.Cond.code ({ cls := "java/lang/Throwable", name := "<init>", desc := "(Ljava/lang/String;Ljava/lang/Throwable;ZZ)V" } : Jvm.MethodName) prog_38_method_5_code (5 : Nat) (Option.none : Option Jvm.ClassFile.FieldType)) ∈ lw_all := lw_g (lw_at lw_m3 44 rfl) rfl
theorem q668 : (Jvm.Cond.fieldLink "java/lang/Throwable" (198 : Nat) "java/lang/Throwable" "backtrace" "Ljava/lang/Object;") ∈ lw_all := lw_g (lw_at lw_m3 49 rfl) rfl
theorem q669 : (Jvm.Cond.fieldLink "java/lang/Throwable" (31 : Nat) "java/lang/Throwable" "detailMessage" "Ljava/lang/String;") ∈ lw_all := lw_g (lw_at lw_m3 50 rfl) rfl
theorem q670 : (Jvm.Cond.fieldLink "java/lang/Throwable" (7 : Nat) "java/lang/Throwable" "cause" "Ljava/lang/Throwable;") ∈ lw_all := lw_g (lw_at lw_m3 51 rfl) rfl
theorem q671 : (Jvm.Cond.fieldLink "java/lang/Throwable" (17 : Nat) "java/lang/Throwable" "stackTrace" "[Ljava/lang/StackTraceElement;") ∈ lw_all := lw_g (lw_at lw_m3 52 rfl) rfl
theorem q672 : (Jvm.Cond.fieldLink "java/lang/Throwable" (24 : Nat) "java/lang/Throwable" "suppressedExceptions" "Ljava/util/List;") ∈ lw_all := lw_g (lw_at lw_m3 53 rfl) rfl
theorem q677 : (Jvm.Cond.soleField "java/lang/Throwable" "backtrace") ∈ lw_all := lw_g (lw_at lw_m3 58 rfl) rfl
theorem q678 : (Jvm.Cond.soleField "java/lang/Throwable" "detailMessage") ∈ lw_all := lw_g (lw_at lw_m3 59 rfl) rfl
theorem q679 : (Jvm.Cond.soleField "java/lang/Throwable" "cause") ∈ lw_all := lw_g (lw_at lw_m3 60 rfl) rfl
theorem q680 : (Jvm.Cond.soleField "java/lang/Throwable" "stackTrace") ∈ lw_all := lw_g (lw_at lw_m3 61 rfl) rfl
theorem q682 : (Jvm.Cond.soleField "java/lang/Throwable" "depth") ∈ lw_all := lw_g (lw_at lw_m3 63 rfl) rfl
theorem q683 : (Jvm.Cond.soleField "java/lang/Throwable" "suppressedExceptions") ∈ lw_all := lw_g (lw_at lw_m3 64 rfl) rfl
theorem q1674 : (Jvm.Cond.instanceMethod ({ cls := "java/lang/Throwable", name := "<init>", desc := "(Ljava/lang/String;)V" } : Jvm.MethodName)) ∈ lw_all := lw_g (lw_at lw_m7 95 rfl) rfl
theorem q1675 : (Jvm.Cond.code ({ cls := "java/lang/Throwable", name := "<init>", desc := "(Ljava/lang/String;)V" } : Jvm.MethodName) prog_38_method_2_code (2 : Nat) (Option.none : Option Jvm.ClassFile.FieldType)) ∈ lw_all := lw_g (lw_at lw_m7 96 rfl) rfl
theorem q2531 : (Jvm.Cond.sameMethod "java/lang/Throwable" "java/lang/Throwable" "fillInStackTrace" "(I)Ljava/lang/Throwable;") ∈ lw_all := lw_g (lw_at lw_m10 232 rfl) rfl
theorem q2560 : (Jvm.Cond.castable "java/lang/Throwable" "java/lang/Object") ∈ lw_tbl := lw_at lw_m11 21 rfl
theorem in_J8 : ∀ w ∈ wsJ80, w ∈ lw_all := lw_in wsJ80 [611, 613, 615, 617, 619] (by decide +kernel) (by decide +kernel)

/-! java/lang/Exception -/
set_option maxRecDepth 100000
def RJ9 : String := "java/lang/Exception"
abbrev cJ9_init : ByteArray := prog_26_method_5_code
def yJ9_init : MethodName := ⟨RJ9, "<init>", "(Ljava/lang/String;Ljava/lang/Throwable;ZZ)V"⟩
def dkwJ9_init_0 : List UInt8 := [42, 43, 44, 29, 21, 4, 183, 0, 16, 177]
abbrev dktJ9_init_0 : List UInt8 := dkwJ9_init_0 ++ []
theorem dksJ9_init_0 : cJ9_init.data.toList.drop 0 = dktJ9_init_0 := by decide +kernel
theorem dJ9_init_0 : decode cJ9_init 0 = .ok (.aload_n 0, 1) := dk_42 (dk_at dksJ9_init_0 0 rfl rfl)
theorem dJ9_init_1 : decode cJ9_init 1 = .ok (.aload_n 1, 1) := dk_43 (dk_at dksJ9_init_0 1 rfl rfl)
theorem dJ9_init_2 : decode cJ9_init 2 = .ok (.aload_n 2, 1) := dk_44 (dk_at dksJ9_init_0 2 rfl rfl)
theorem dJ9_init_3 : decode cJ9_init 3 = .ok (.iload_n 3, 1) := dk_29 (dk_at dksJ9_init_0 3 rfl rfl)
theorem dJ9_init_4 : decode cJ9_init 4 = .ok (.iload 4, 2) := dk_21 4 (dk_at dksJ9_init_0 4 rfl rfl)
theorem dJ9_init_6 : decode cJ9_init 6 = .ok (.invokespecial 16, 3) := dk_183 0 16 (dk_at dksJ9_init_0 6 rfl rfl)
theorem dJ9_init_9 : decode cJ9_init 9 = .ok (.return_, 1) := dk_177 (dk_at dksJ9_init_0 9 rfl rfl)
abbrev cJ9_init_2 : ByteArray := prog_26_method_1_code
def yJ9_init_2 : MethodName := ⟨RJ9, "<init>", "()V"⟩
theorem dJ9_init_2_0 : decode cJ9_init_2 0 = .ok (.aload_n 0, 1) := by decide +kernel
theorem dJ9_init_2_1 : decode cJ9_init_2 1 = .ok (.invokespecial 1, 3) := by decide +kernel
theorem dJ9_init_2_4 : decode cJ9_init_2 4 = .ok (.return_, 1) := by decide +kernel
abbrev cJ9_init_3 : ByteArray := prog_26_method_2_code
def yJ9_init_3 : MethodName := ⟨RJ9, "<init>", "(Ljava/lang/String;)V"⟩
def dkwJ9_init_3_0 : List UInt8 := [42, 43, 183, 0, 7, 177]
abbrev dktJ9_init_3_0 : List UInt8 := dkwJ9_init_3_0 ++ []
theorem dksJ9_init_3_0 : cJ9_init_3.data.toList.drop 0 = dktJ9_init_3_0 := by decide +kernel
theorem dJ9_init_3_0 : decode cJ9_init_3 0 = .ok (.aload_n 0, 1) := dk_42 (dk_at dksJ9_init_3_0 0 rfl rfl)
theorem dJ9_init_3_1 : decode cJ9_init_3 1 = .ok (.aload_n 1, 1) := dk_43 (dk_at dksJ9_init_3_0 1 rfl rfl)
theorem dJ9_init_3_2 : decode cJ9_init_3 2 = .ok (.invokespecial 7, 3) := dk_183 0 7 (dk_at dksJ9_init_3_0 2 rfl rfl)
theorem dJ9_init_3_5 : decode cJ9_init_3 5 = .ok (.return_, 1) := dk_177 (dk_at dksJ9_init_3_0 5 rfl rfl)
theorem q159 : (Jvm.Cond.initialized "java/lang/Exception") ∈ lw_all := lw_g (lw_at lw_m1 20 rfl) rfl
theorem q604 : (Jvm.Cond.declares ({ cls := "java/lang/Exception", name := "<init>", desc := "()V" } : Jvm.MethodName)) ∈ lw_tbl := lw_at lw_m2 225 rfl
theorem q605 : (Jvm.Cond.declares ({ cls := "java/lang/Exception", name := "<init>", desc := "(Ljava/lang/String;)V" } : Jvm.MethodName)) ∈ lw_tbl := lw_at lw_m2 226 rfl
theorem q648 : (Jvm.Cond.superclass "java/lang/Exception" "java/lang/Throwable") ∈ lw_all := lw_g (lw_at lw_m3 29 rfl) rfl
theorem q659 : (Jvm.Cond.instanceMethod ({ cls := "java/lang/Exception", name := "<init>", desc := "(Ljava/lang/String;Ljava/lang/Throwable;ZZ)V" } : Jvm.MethodName)) ∈ lw_all := lw_g (lw_at lw_m3 40 rfl) rfl
theorem q660 : (Jvm.Cond.code ({ cls := "java/lang/Exception", name := "<init>", desc := "(Ljava/lang/String;Ljava/lang/Throwable;ZZ)V" } : Jvm.MethodName) prog_26_method_5_code (5 : Nat) (Option.none : Option Jvm.ClassFile.FieldType)) ∈ lw_all := lw_g (lw_at lw_m3 41 rfl) rfl
theorem q661 : (Jvm.Cond.methodLink "java/lang/Exception" (16 : Nat) ({ cls := "java/lang/Throwable", name := "<init>", desc := "(Ljava/lang/String;Ljava/lang/Throwable;ZZ)V" } : Jvm.MethodName)) ∈ lw_all := lw_g (lw_at lw_m3 42 rfl) rfl
theorem q1554 : (Jvm.Cond.instanceMethod ({ cls := "java/lang/Exception", name := "<init>", desc := "()V" } : Jvm.MethodName)) ∈ lw_all := lw_g (lw_at lw_m6 215 rfl) rfl
theorem q1555 : (Jvm.Cond.code ({ cls := "java/lang/Exception", name := "<init>", desc := "()V" } : Jvm.MethodName) prog_26_method_1_code (1 : Nat) (Option.none : Option Jvm.ClassFile.FieldType)) ∈ lw_all := lw_g (lw_at lw_m6 216 rfl) rfl
theorem q1556 : (Jvm.Cond.methodLink "java/lang/Exception" (1 : Nat) ({ cls := "java/lang/Throwable", name := "<init>", desc := "()V" } : Jvm.MethodName)) ∈ lw_all := lw_g (lw_at lw_m6 217 rfl) rfl
theorem q1671 : (Jvm.Cond.instanceMethod ({ cls := "java/lang/Exception", name := "<init>", desc := "(Ljava/lang/String;)V" } : Jvm.MethodName)) ∈ lw_all := lw_g (lw_at lw_m7 92 rfl) rfl
theorem q1672 : (Jvm.Cond.code ({ cls := "java/lang/Exception", name := "<init>", desc := "(Ljava/lang/String;)V" } : Jvm.MethodName) prog_26_method_2_code (2 : Nat) (Option.none : Option Jvm.ClassFile.FieldType)) ∈ lw_all := lw_g (lw_at lw_m7 93 rfl) rfl
theorem q1673 : (Jvm.Cond.methodLink "java/lang/Exception" (7 : Nat) ({ cls := "java/lang/Throwable", name := "<init>", desc := "(Ljava/lang/String;)V" } : Jvm.MethodName)) ∈ lw_all := lw_g (lw_at lw_m7 94 rfl) rfl

/-! the law's own entry -/
set_option maxRecDepth 100000
abbrev cL_law : ByteArray := code
def dkwL_law_75 : List UInt8 := [46, 182, 1, 6, 159, 0, 5, 3, 172, 132, 3, 6, 167, 248, 67, 4, 172]
abbrev dktL_law_75 : List UInt8 := dkwL_law_75 ++ []
def dkwL_law_74 : List UInt8 := [42, 29, 4, 96, 46, 42, 29, 5, 96, 46, 42, 29, 6, 96, 46, 42, 29, 7, 96, 46, 42, 29, 8, 96]
abbrev dktL_law_74 : List UInt8 := dkwL_law_74 ++ dktL_law_75
def dkwL_law_73 : List UInt8 := [42, 29, 5, 96, 46, 42, 29, 6, 96, 46, 42, 29, 7, 96, 46, 42, 29, 8, 96, 46, 182, 1, 3, 44]
abbrev dktL_law_73 : List UInt8 := dkwL_law_73 ++ dktL_law_74
def dkwL_law_72 : List UInt8 := [29, 7, 96, 46, 133, 20, 0, 252, 127, 129, 182, 1, 2, 159, 0, 68, 3, 172, 43, 42, 29, 4, 96, 46]
abbrev dktL_law_72 : List UInt8 := dkwL_law_72 ++ dktL_law_73
def dkwL_law_71 : List UInt8 := [182, 0, 254, 44, 42, 29, 4, 96, 46, 42, 29, 5, 96, 46, 42, 29, 6, 96, 46, 133, 16, 32, 121, 42]
abbrev dktL_law_71 : List UInt8 := dkwL_law_71 ++ dktL_law_72
def dkwL_law_70 : List UInt8 := [29, 5, 96, 46, 42, 29, 6, 96, 46, 133, 16, 32, 121, 42, 29, 7, 96, 46, 133, 20, 0, 252, 127, 129]
abbrev dktL_law_70 : List UInt8 := dkwL_law_70 ++ dktL_law_71
def dkwL_law_69 : List UInt8 := [29, 5, 96, 46, 42, 29, 6, 96, 46, 182, 0, 251, 159, 0, 141, 3, 172, 43, 42, 29, 4, 96, 46, 42]
abbrev dktL_law_69 : List UInt8 := dkwL_law_69 ++ dktL_law_70
def dkwL_law_68 : List UInt8 := [29, 4, 96, 46, 42, 29, 5, 96, 46, 42, 29, 6, 96, 46, 182, 0, 248, 44, 42, 29, 4, 96, 46, 42]
abbrev dktL_law_68 : List UInt8 := dkwL_law_68 ++ dktL_law_69
def dkwL_law_67 : List UInt8 := [42, 29, 4, 96, 46, 182, 0, 244, 44, 42, 29, 4, 96, 46, 182, 0, 247, 159, 0, 184, 3, 172, 43, 42]
abbrev dktL_law_67 : List UInt8 := dkwL_law_67 ++ dktL_law_68
def dkwL_law_66 : List UInt8 := [43, 42, 29, 4, 96, 46, 182, 0, 240, 44, 42, 29, 4, 96, 46, 182, 0, 243, 159, 0, 207, 3, 172, 43]
abbrev dktL_law_66 : List UInt8 := dkwL_law_66 ++ dktL_law_67
def dkwL_law_65 : List UInt8 := [172, 43, 42, 29, 4, 96, 46, 182, 0, 236, 44, 42, 29, 4, 96, 46, 182, 0, 239, 159, 0, 230, 3, 172]
abbrev dktL_law_65 : List UInt8 := dkwL_law_65 ++ dktL_law_66
def dkwL_law_64 : List UInt8 := [44, 42, 29, 4, 96, 46, 42, 29, 5, 96, 46, 42, 29, 6, 96, 46, 182, 0, 235, 148, 153, 0, 253, 3]
abbrev dktL_law_64 : List UInt8 := dkwL_law_64 ++ dktL_law_65
def dkwL_law_63 : List UInt8 := [159, 1, 41, 3, 172, 43, 42, 29, 4, 96, 46, 42, 29, 5, 96, 46, 42, 29, 6, 96, 46, 182, 0, 232]
abbrev dktL_law_63 : List UInt8 := dkwL_law_63 ++ dktL_law_64
def dkwL_law_62 : List UInt8 := [159, 1, 64, 3, 172, 43, 42, 29, 4, 96, 46, 182, 0, 228, 44, 42, 29, 4, 96, 46, 182, 0, 231]
abbrev dktL_law_62 : List UInt8 := dkwL_law_62 ++ dktL_law_63
def dkwL_law_61 : List UInt8 := [159, 1, 87, 3, 172, 43, 42, 29, 4, 96, 46, 182, 0, 224, 44, 42, 29, 4, 96, 46, 182, 0, 227]
abbrev dktL_law_61 : List UInt8 := dkwL_law_61 ++ dktL_law_62
def dkwL_law_60 : List UInt8 := [159, 1, 110, 3, 172, 43, 42, 29, 4, 96, 46, 182, 0, 220, 44, 42, 29, 4, 96, 46, 182, 0, 223]
abbrev dktL_law_60 : List UInt8 := dkwL_law_60 ++ dktL_law_61
def dkwL_law_59 : List UInt8 := [159, 1, 133, 3, 172, 43, 42, 29, 4, 96, 46, 182, 0, 216, 44, 42, 29, 4, 96, 46, 182, 0, 219]
abbrev dktL_law_59 : List UInt8 := dkwL_law_59 ++ dktL_law_60
def dkwL_law_58 : List UInt8 := [42, 29, 5, 96, 46, 182, 0, 212, 44, 42, 29, 4, 96, 46, 42, 29, 5, 96, 46, 182, 0, 215]
abbrev dktL_law_58 : List UInt8 := dkwL_law_58 ++ dktL_law_59
def dkwL_law_57 : List UInt8 := [153, 1, 179, 3, 172, 43, 182, 0, 208, 44, 182, 0, 211, 159, 1, 166, 3, 172, 43, 42, 29, 4, 96, 46]
abbrev dktL_law_57 : List UInt8 := dkwL_law_57 ++ dktL_law_58
def dkwL_law_56 : List UInt8 := [159, 1, 203, 3, 172, 43, 42, 29, 4, 96, 46, 182, 0, 204, 44, 42, 29, 4, 96, 46, 182, 0, 207, 148]
abbrev dktL_law_56 : List UInt8 := dkwL_law_56 ++ dktL_law_57
def dkwL_law_55 : List UInt8 := [182, 0, 199, 44, 42, 29, 4, 96, 46, 42, 29, 5, 96, 46, 42, 29, 6, 96, 46, 182, 0, 203]
abbrev dktL_law_55 : List UInt8 := dkwL_law_55 ++ dktL_law_56
def dkwL_law_54 : List UInt8 := [148, 153, 1, 246, 3, 172, 43, 42, 29, 4, 96, 46, 42, 29, 5, 96, 46, 42, 29, 6, 96, 46]
abbrev dktL_law_54 : List UInt8 := dkwL_law_54 ++ dktL_law_55
def dkwL_law_53 : List UInt8 := [96, 46, 182, 0, 195, 44, 42, 29, 4, 96, 46, 42, 29, 5, 96, 46, 42, 29, 6, 96, 46, 182, 0, 198]
abbrev dktL_law_53 : List UInt8 := dkwL_law_53 ++ dktL_law_54
def dkwL_law_52 : List UInt8 := [96, 46, 182, 0, 194, 159, 2, 34, 3, 172, 43, 42, 29, 4, 96, 46, 42, 29, 5, 96, 46, 42, 29, 6]
abbrev dktL_law_52 : List UInt8 := dkwL_law_52 ++ dktL_law_53
def dkwL_law_51 : List UInt8 := [96, 46, 182, 0, 190, 148, 153, 2, 57, 3, 172, 43, 42, 29, 4, 96, 46, 182, 0, 191, 44, 42, 29, 4]
abbrev dktL_law_51 : List UInt8 := dkwL_law_51 ++ dktL_law_52
def dkwL_law_50 : List UInt8 := [96, 46, 182, 0, 186, 44, 42, 29, 4, 96, 46, 42, 29, 5, 96, 46, 42, 29, 6, 96, 46, 42, 29, 7]
abbrev dktL_law_50 : List UInt8 := dkwL_law_50 ++ dktL_law_51
def dkwL_law_49 : List UInt8 := [153, 2, 111, 3, 172, 43, 42, 29, 4, 96, 46, 42, 29, 5, 96, 46, 42, 29, 6, 96, 46, 42, 29, 7]
abbrev dktL_law_49 : List UInt8 := dkwL_law_49 ++ dktL_law_50
def dkwL_law_48 : List UInt8 := [46, 182, 0, 182, 44, 42, 29, 4, 96, 46, 42, 29, 5, 96, 46, 42, 29, 6, 96, 46, 182, 0, 185, 148]
abbrev dktL_law_48 : List UInt8 := dkwL_law_48 ++ dktL_law_49
def dkwL_law_47 : List UInt8 := [182, 0, 181, 148, 153, 2, 155, 3, 172, 43, 42, 29, 4, 96, 46, 42, 29, 5, 96, 46, 42, 29, 6, 96]
abbrev dktL_law_47 : List UInt8 := dkwL_law_47 ++ dktL_law_48
def dkwL_law_46 : List UInt8 := [182, 0, 177, 159, 2, 179, 3, 172, 43, 42, 29, 4, 96, 46, 182, 0, 178, 44, 42, 29, 4, 96, 46]
abbrev dktL_law_46 : List UInt8 := dkwL_law_46 ++ dktL_law_47
def dkwL_law_45 : List UInt8 := [148, 153, 2, 205, 3, 172, 43, 182, 0, 170, 44, 182, 0, 173, 159, 2, 192, 3, 172, 43, 182, 0, 174, 44]
abbrev dktL_law_45 : List UInt8 := dkwL_law_45 ++ dktL_law_46
def dkwL_law_44 : List UInt8 := [153, 0, 7, 4, 167, 0, 4, 3, 182, 0, 165, 159, 2, 219, 3, 172, 43, 182, 0, 166, 44, 182, 0, 169]
abbrev dktL_law_44 : List UInt8 := dkwL_law_44 ++ dktL_law_45
def dkwL_law_43 : List UInt8 := [42, 29, 4, 96, 46, 153, 0, 7, 4, 167, 0, 4, 3, 182, 0, 161, 44, 42, 29, 4, 96, 46]
abbrev dktL_law_43 : List UInt8 := dkwL_law_43 ++ dktL_law_44
def dkwL_law_42 : List UInt8 := [182, 0, 157, 44, 42, 29, 4, 96, 46, 42, 29, 5, 96, 46, 182, 0, 160, 148, 153, 3, 2, 3, 172, 43]
abbrev dktL_law_42 : List UInt8 := dkwL_law_42 ++ dktL_law_43
def dkwL_law_41 : List UInt8 := [29, 4, 96, 46, 182, 0, 156, 159, 3, 36, 3, 172, 43, 42, 29, 4, 96, 46, 42, 29, 5, 96, 46]
abbrev dktL_law_41 : List UInt8 := dkwL_law_41 ++ dktL_law_42
def dkwL_law_40 : List UInt8 := [42, 29, 4, 96, 46, 182, 0, 152, 159, 3, 59, 3, 172, 43, 42, 29, 4, 96, 46, 182, 0, 153, 44, 42]
abbrev dktL_law_40 : List UInt8 := dkwL_law_40 ++ dktL_law_41
def dkwL_law_39 : List UInt8 := [46, 42, 29, 5, 96, 46, 182, 0, 148, 159, 3, 82, 3, 172, 43, 42, 29, 4, 96, 46, 182, 0, 149, 44]
abbrev dktL_law_39 : List UInt8 := dkwL_law_39 ++ dktL_law_40
def dkwL_law_38 : List UInt8 := [159, 3, 115, 3, 172, 43, 42, 29, 4, 96, 46, 42, 29, 5, 96, 46, 182, 0, 145, 44, 42, 29, 4, 96]
abbrev dktL_law_38 : List UInt8 := dkwL_law_38 ++ dktL_law_39
def dkwL_law_37 : List UInt8 := [46, 42, 29, 5, 96, 46, 182, 0, 141, 44, 42, 29, 4, 96, 46, 42, 29, 5, 96, 46, 182, 0, 144]
abbrev dktL_law_37 : List UInt8 := dkwL_law_37 ++ dktL_law_38
def dkwL_law_36 : List UInt8 := [44, 42, 29, 4, 96, 46, 42, 29, 5, 96, 46, 182, 0, 140, 159, 3, 148, 3, 172, 43, 42, 29, 4, 96]
abbrev dktL_law_36 : List UInt8 := dkwL_law_36 ++ dktL_law_37
def dkwL_law_35 : List UInt8 := [96, 46, 182, 0, 136, 159, 3, 181, 3, 172, 43, 42, 29, 4, 96, 46, 42, 29, 5, 96, 46, 182, 0, 137]
abbrev dktL_law_35 : List UInt8 := dkwL_law_35 ++ dktL_law_36
def dkwL_law_34 : List UInt8 := [172, 43, 42, 29, 4, 96, 46, 42, 29, 5, 96, 46, 182, 0, 133, 44, 42, 29, 4, 96, 46, 42, 29, 5]
abbrev dktL_law_34 : List UInt8 := dkwL_law_34 ++ dktL_law_35
def dkwL_law_33 : List UInt8 := [44, 42, 29, 4, 96, 46, 42, 29, 5, 96, 46, 42, 29, 6, 96, 46, 182, 0, 132, 148, 153, 3, 214, 3]
abbrev dktL_law_33 : List UInt8 := dkwL_law_33 ++ dktL_law_34
def dkwL_law_32 : List UInt8 := [153, 4, 2, 3, 172, 43, 42, 29, 4, 96, 46, 42, 29, 5, 96, 46, 42, 29, 6, 96, 46, 182, 0, 128]
abbrev dktL_law_32 : List UInt8 := dkwL_law_32 ++ dktL_law_33
def dkwL_law_31 : List UInt8 := [46, 42, 29, 5, 96, 46, 182, 0, 123, 159, 4, 16, 3, 172, 43, 182, 0, 124, 44, 182, 0, 127, 148]
abbrev dktL_law_31 : List UInt8 := dkwL_law_31 ++ dktL_law_32
def dkwL_law_30 : List UInt8 := [153, 4, 49, 3, 172, 43, 42, 29, 4, 96, 46, 42, 29, 5, 96, 46, 182, 0, 120, 44, 42, 29, 4, 96]
abbrev dktL_law_30 : List UInt8 := dkwL_law_30 ++ dktL_law_31
def dkwL_law_29 : List UInt8 := [42, 29, 4, 96, 46, 182, 0, 115, 159, 4, 63, 3, 172, 43, 182, 0, 116, 44, 182, 0, 119, 148]
abbrev dktL_law_29 : List UInt8 := dkwL_law_29 ++ dktL_law_30
def dkwL_law_28 : List UInt8 := [43, 182, 0, 107, 44, 182, 0, 111, 148, 153, 4, 86, 3, 172, 43, 42, 29, 4, 96, 46, 182, 0, 112, 44]
abbrev dktL_law_28 : List UInt8 := dkwL_law_28 ++ dktL_law_29
def dkwL_law_27 : List UInt8 := [4, 96, 46, 182, 0, 102, 159, 4, 113, 3, 172, 43, 182, 0, 103, 44, 182, 0, 106, 159, 4, 100, 3, 172]
abbrev dktL_law_27 : List UInt8 := dkwL_law_27 ++ dktL_law_28
def dkwL_law_26 : List UInt8 := [182, 0, 95, 44, 182, 0, 98, 159, 4, 136, 3, 172, 43, 42, 29, 4, 96, 46, 182, 0, 99, 44, 42, 29]
abbrev dktL_law_26 : List UInt8 := dkwL_law_26 ++ dktL_law_27
def dkwL_law_25 : List UInt8 := [43, 42, 29, 4, 96, 46, 182, 0, 91, 44, 42, 29, 4, 96, 46, 182, 0, 94, 159, 4, 149, 3, 172, 43]
abbrev dktL_law_25 : List UInt8 := dkwL_law_25 ++ dktL_law_26
def dkwL_law_24 : List UInt8 := [46, 182, 0, 87, 44, 42, 29, 4, 96, 46, 42, 29, 5, 96, 46, 182, 0, 90, 148, 153, 4, 172, 3, 172]
abbrev dktL_law_24 : List UInt8 := dkwL_law_24 ++ dktL_law_25
def dkwL_law_23 : List UInt8 := [46, 42, 29, 5, 96, 46, 182, 0, 86, 159, 4, 206, 3, 172, 43, 42, 29, 4, 96, 46, 42, 29, 5, 96]
abbrev dktL_law_23 : List UInt8 := dkwL_law_23 ++ dktL_law_24
def dkwL_law_22 : List UInt8 := [153, 4, 239, 3, 172, 43, 42, 29, 4, 96, 46, 42, 29, 5, 96, 46, 182, 0, 83, 44, 42, 29, 4, 96]
abbrev dktL_law_22 : List UInt8 := dkwL_law_22 ++ dktL_law_23
def dkwL_law_21 : List UInt8 := [153, 5, 7, 3, 172, 43, 42, 29, 4, 96, 46, 182, 0, 79, 44, 42, 29, 4, 96, 46, 182, 0, 82, 148]
abbrev dktL_law_21 : List UInt8 := dkwL_law_21 ++ dktL_law_22
def dkwL_law_20 : List UInt8 := [46, 42, 29, 5, 96, 46, 182, 0, 75, 44, 42, 29, 4, 96, 46, 42, 29, 5, 96, 46, 182, 0, 78, 148]
abbrev dktL_law_20 : List UInt8 := dkwL_law_20 ++ dktL_law_21
def dkwL_law_19 : List UInt8 := [42, 29, 4, 96, 46, 42, 29, 5, 96, 46, 182, 0, 74, 148, 153, 5, 41, 3, 172, 43, 42, 29, 4, 96]
abbrev dktL_law_19 : List UInt8 := dkwL_law_19 ++ dktL_law_20
def dkwL_law_18 : List UInt8 := [182, 0, 69, 148, 153, 5, 75, 3, 172, 43, 42, 29, 4, 96, 46, 42, 29, 5, 96, 46, 182, 0, 70, 44]
abbrev dktL_law_18 : List UInt8 := dkwL_law_18 ++ dktL_law_19
def dkwL_law_17 : List UInt8 := [182, 0, 65, 148, 153, 5, 99, 3, 172, 43, 42, 29, 4, 96, 46, 182, 0, 66, 44, 42, 29, 4, 96, 46]
abbrev dktL_law_17 : List UInt8 := dkwL_law_17 ++ dktL_law_18
def dkwL_law_16 : List UInt8 := [182, 0, 61, 148, 153, 5, 123, 3, 172, 43, 42, 29, 4, 96, 46, 182, 0, 62, 44, 42, 29, 4, 96, 46]
abbrev dktL_law_16 : List UInt8 := dkwL_law_16 ++ dktL_law_17
def dkwL_law_15 : List UInt8 := [182, 0, 56, 159, 5, 147, 3, 172, 43, 42, 29, 4, 96, 46, 182, 0, 57, 44, 42, 29, 4, 96, 46]
abbrev dktL_law_15 : List UInt8 := dkwL_law_15 ++ dktL_law_16
def dkwL_law_14 : List UInt8 := [182, 0, 52, 159, 5, 170, 3, 172, 43, 42, 29, 4, 96, 46, 182, 0, 53, 44, 42, 29, 4, 96, 46]
abbrev dktL_law_14 : List UInt8 := dkwL_law_14 ++ dktL_law_15
def dkwL_law_13 : List UInt8 := [29, 4, 96, 46, 42, 29, 5, 96, 46, 182, 0, 49, 44, 42, 29, 4, 96, 46, 42, 29, 5, 96, 46]
abbrev dktL_law_13 : List UInt8 := dkwL_law_13 ++ dktL_law_14
def dkwL_law_12 : List UInt8 := [42, 29, 4, 96, 46, 182, 0, 45, 44, 42, 29, 4, 96, 46, 182, 0, 48, 159, 5, 203, 3, 172, 43, 42]
abbrev dktL_law_12 : List UInt8 := dkwL_law_12 ++ dktL_law_13
def dkwL_law_11 : List UInt8 := [46, 182, 0, 41, 44, 42, 29, 4, 96, 46, 42, 29, 5, 96, 46, 182, 0, 44, 159, 5, 226, 3, 172, 43]
abbrev dktL_law_11 : List UInt8 := dkwL_law_11 ++ dktL_law_12
def dkwL_law_10 : List UInt8 := [46, 42, 29, 5, 96, 46, 182, 0, 40, 159, 6, 3, 3, 172, 43, 42, 29, 4, 96, 46, 42, 29, 5, 96]
abbrev dktL_law_10 : List UInt8 := dkwL_law_10 ++ dktL_law_11
def dkwL_law_9 : List UInt8 := [159, 6, 36, 3, 172, 43, 42, 29, 4, 96, 46, 42, 29, 5, 96, 46, 182, 0, 36, 44, 42, 29, 4, 96]
abbrev dktL_law_9 : List UInt8 := dkwL_law_9 ++ dktL_law_10
def dkwL_law_8 : List UInt8 := [159, 6, 59, 3, 172, 43, 42, 29, 4, 96, 46, 182, 0, 32, 44, 42, 29, 4, 96, 46, 182, 0, 35]
abbrev dktL_law_8 : List UInt8 := dkwL_law_8 ++ dktL_law_9
def dkwL_law_7 : List UInt8 := [159, 6, 82, 3, 172, 43, 42, 29, 4, 96, 46, 182, 0, 28, 44, 42, 29, 4, 96, 46, 182, 0, 31]
abbrev dktL_law_7 : List UInt8 := dkwL_law_7 ++ dktL_law_8
def dkwL_law_6 : List UInt8 := [44, 42, 29, 4, 96, 46, 182, 0, 22, 159, 6, 95, 3, 172, 43, 182, 0, 23, 44, 182, 0, 27]
abbrev dktL_law_6 : List UInt8 := dkwL_law_6 ++ dktL_law_7
def dkwL_law_5 : List UInt8 := [96, 46, 42, 29, 8, 96, 46, 182, 0, 17, 159, 6, 118, 3, 172, 43, 42, 29, 4, 96, 46, 182, 0, 18]
abbrev dktL_law_5 : List UInt8 := dkwL_law_5 ++ dktL_law_6
def dkwL_law_4 : List UInt8 := [96, 46, 182, 0, 13, 44, 42, 29, 4, 96, 46, 42, 29, 5, 96, 46, 42, 29, 6, 96, 46, 42, 29, 7]
abbrev dktL_law_4 : List UInt8 := dkwL_law_4 ++ dktL_law_5
def dkwL_law_3 : List UInt8 := [43, 42, 29, 4, 96, 46, 42, 29, 5, 96, 46, 42, 29, 6, 96, 46, 42, 29, 7, 96, 46, 42, 29, 8]
abbrev dktL_law_3 : List UInt8 := dkwL_law_3 ++ dktL_law_4
def dkwL_law_2 : List UInt8 := [170, 0, 0, 0, 0, 7, 171, 0, 0, 0, 0, 0, 0, 0, 58, 0, 0, 0, 251, 0, 0, 1, 58, 0, 0, 1, 81, 0, 0, 1, 94, 0, 0, 1, 117, 0, 0, 1, 140, 0, 0, 1, 173, 0, 0, 1, 206, 0, 0, 1, 229, 0, 0, 2, 6, 0, 0, 2, 29, 0, 0, 2, 53, 0, 0, 2, 77, 0, 0, 2, 101, 0, 0, 2, 135, 0, 0, 2, 169, 0, 0, 2, 193, 0, 0, 2, 226, 0, 0, 3, 4, 0, 0, 3, 27, 0, 0, 3, 40, 0, 0, 3, 63, 0, 0, 3, 76, 0, 0, 3, 90, 0, 0, 3, 113, 0, 0, 3, 127, 0, 0, 3, 160, 0, 0, 3, 174, 0, 0, 3, 218, 0, 0, 3, 251, 0, 0, 4, 28, 0, 0, 4, 61, 0, 0, 4, 94, 0, 0, 4, 117, 0, 0, 4, 140, 0, 0, 4, 174, 0, 0, 4, 213, 0, 0, 4, 227, 0, 0, 4, 240, 0, 0, 4, 253, 0, 0, 5, 21, 0, 0, 5, 65, 0, 0, 5, 119, 0, 0, 5, 142, 0, 0, 5, 186, 0, 0, 5, 229, 0, 0, 5, 253, 0, 0, 6, 10, 0, 0, 6, 43, 0, 0, 6, 66, 0, 0, 6, 89, 0, 0, 6, 112, 0, 0, 6, 135, 0, 0, 6, 179, 0, 0, 6, 202, 0, 0, 6, 225, 0, 0, 6, 248, 0, 0, 7, 35, 0, 0, 7, 108]
abbrev dktL_law_2 : List UInt8 := dkwL_law_2 ++ dktL_law_3
def dkwL_law_1 : List UInt8 := [163, 7, 186, 42, 29, 46, 16, 63, 126]
abbrev dktL_law_1 : List UInt8 := dkwL_law_1 ++ dktL_law_2
def dkwL_law_0 : List UInt8 := [187, 0, 7, 89, 183, 0, 9, 76, 187, 0, 10, 89, 183, 0, 12, 77, 3, 62, 29, 42, 190, 16, 6, 100]
abbrev dktL_law_0 : List UInt8 := dkwL_law_0 ++ dktL_law_1
theorem dksL_law_0 : cL_law.data.toList.drop 0 = dktL_law_0 := by decide +kernel
theorem dksL_law_1 : cL_law.data.toList.drop 24 = dktL_law_1 := dk_seg dksL_law_0 24 rfl rfl
theorem dksL_law_2 : cL_law.data.toList.drop 33 = dktL_law_2 := dk_seg dksL_law_1 9 rfl rfl
theorem dksL_law_3 : cL_law.data.toList.drop 284 = dktL_law_3 := dk_seg dksL_law_2 251 rfl rfl
theorem dksL_law_4 : cL_law.data.toList.drop 308 = dktL_law_4 := dk_seg dksL_law_3 24 rfl rfl
theorem dksL_law_5 : cL_law.data.toList.drop 332 = dktL_law_5 := dk_seg dksL_law_4 24 rfl rfl
theorem dksL_law_6 : cL_law.data.toList.drop 356 = dktL_law_6 := dk_seg dksL_law_5 24 rfl rfl
theorem dksL_law_7 : cL_law.data.toList.drop 378 = dktL_law_7 := dk_seg dksL_law_6 22 rfl rfl
theorem dksL_law_8 : cL_law.data.toList.drop 401 = dktL_law_8 := dk_seg dksL_law_7 23 rfl rfl
theorem dksL_law_9 : cL_law.data.toList.drop 424 = dktL_law_9 := dk_seg dksL_law_8 23 rfl rfl
theorem dksL_law_10 : cL_law.data.toList.drop 448 = dktL_law_10 := dk_seg dksL_law_9 24 rfl rfl
theorem dksL_law_11 : cL_law.data.toList.drop 472 = dktL_law_11 := dk_seg dksL_law_10 24 rfl rfl
theorem dksL_law_12 : cL_law.data.toList.drop 496 = dktL_law_12 := dk_seg dksL_law_11 24 rfl rfl
theorem dksL_law_13 : cL_law.data.toList.drop 520 = dktL_law_13 := dk_seg dksL_law_12 24 rfl rfl
theorem dksL_law_14 : cL_law.data.toList.drop 543 = dktL_law_14 := dk_seg dksL_law_13 23 rfl rfl
theorem dksL_law_15 : cL_law.data.toList.drop 566 = dktL_law_15 := dk_seg dksL_law_14 23 rfl rfl
theorem dksL_law_16 : cL_law.data.toList.drop 589 = dktL_law_16 := dk_seg dksL_law_15 23 rfl rfl
theorem dksL_law_17 : cL_law.data.toList.drop 613 = dktL_law_17 := dk_seg dksL_law_16 24 rfl rfl
theorem dksL_law_18 : cL_law.data.toList.drop 637 = dktL_law_18 := dk_seg dksL_law_17 24 rfl rfl
theorem dksL_law_19 : cL_law.data.toList.drop 661 = dktL_law_19 := dk_seg dksL_law_18 24 rfl rfl
theorem dksL_law_20 : cL_law.data.toList.drop 685 = dktL_law_20 := dk_seg dksL_law_19 24 rfl rfl
theorem dksL_law_21 : cL_law.data.toList.drop 709 = dktL_law_21 := dk_seg dksL_law_20 24 rfl rfl
theorem dksL_law_22 : cL_law.data.toList.drop 733 = dktL_law_22 := dk_seg dksL_law_21 24 rfl rfl
theorem dksL_law_23 : cL_law.data.toList.drop 757 = dktL_law_23 := dk_seg dksL_law_22 24 rfl rfl
theorem dksL_law_24 : cL_law.data.toList.drop 781 = dktL_law_24 := dk_seg dksL_law_23 24 rfl rfl
theorem dksL_law_25 : cL_law.data.toList.drop 805 = dktL_law_25 := dk_seg dksL_law_24 24 rfl rfl
theorem dksL_law_26 : cL_law.data.toList.drop 829 = dktL_law_26 := dk_seg dksL_law_25 24 rfl rfl
theorem dksL_law_27 : cL_law.data.toList.drop 853 = dktL_law_27 := dk_seg dksL_law_26 24 rfl rfl
theorem dksL_law_28 : cL_law.data.toList.drop 877 = dktL_law_28 := dk_seg dksL_law_27 24 rfl rfl
theorem dksL_law_29 : cL_law.data.toList.drop 901 = dktL_law_29 := dk_seg dksL_law_28 24 rfl rfl
theorem dksL_law_30 : cL_law.data.toList.drop 923 = dktL_law_30 := dk_seg dksL_law_29 22 rfl rfl
theorem dksL_law_31 : cL_law.data.toList.drop 947 = dktL_law_31 := dk_seg dksL_law_30 24 rfl rfl
theorem dksL_law_32 : cL_law.data.toList.drop 970 = dktL_law_32 := dk_seg dksL_law_31 23 rfl rfl
theorem dksL_law_33 : cL_law.data.toList.drop 994 = dktL_law_33 := dk_seg dksL_law_32 24 rfl rfl
theorem dksL_law_34 : cL_law.data.toList.drop 1018 = dktL_law_34 := dk_seg dksL_law_33 24 rfl rfl
theorem dksL_law_35 : cL_law.data.toList.drop 1042 = dktL_law_35 := dk_seg dksL_law_34 24 rfl rfl
theorem dksL_law_36 : cL_law.data.toList.drop 1066 = dktL_law_36 := dk_seg dksL_law_35 24 rfl rfl
theorem dksL_law_37 : cL_law.data.toList.drop 1090 = dktL_law_37 := dk_seg dksL_law_36 24 rfl rfl
theorem dksL_law_38 : cL_law.data.toList.drop 1113 = dktL_law_38 := dk_seg dksL_law_37 23 rfl rfl
theorem dksL_law_39 : cL_law.data.toList.drop 1137 = dktL_law_39 := dk_seg dksL_law_38 24 rfl rfl
theorem dksL_law_40 : cL_law.data.toList.drop 1161 = dktL_law_40 := dk_seg dksL_law_39 24 rfl rfl
theorem dksL_law_41 : cL_law.data.toList.drop 1185 = dktL_law_41 := dk_seg dksL_law_40 24 rfl rfl
theorem dksL_law_42 : cL_law.data.toList.drop 1208 = dktL_law_42 := dk_seg dksL_law_41 23 rfl rfl
theorem dksL_law_43 : cL_law.data.toList.drop 1232 = dktL_law_43 := dk_seg dksL_law_42 24 rfl rfl
theorem dksL_law_44 : cL_law.data.toList.drop 1254 = dktL_law_44 := dk_seg dksL_law_43 22 rfl rfl
theorem dksL_law_45 : cL_law.data.toList.drop 1278 = dktL_law_45 := dk_seg dksL_law_44 24 rfl rfl
theorem dksL_law_46 : cL_law.data.toList.drop 1302 = dktL_law_46 := dk_seg dksL_law_45 24 rfl rfl
theorem dksL_law_47 : cL_law.data.toList.drop 1325 = dktL_law_47 := dk_seg dksL_law_46 23 rfl rfl
theorem dksL_law_48 : cL_law.data.toList.drop 1349 = dktL_law_48 := dk_seg dksL_law_47 24 rfl rfl
theorem dksL_law_49 : cL_law.data.toList.drop 1373 = dktL_law_49 := dk_seg dksL_law_48 24 rfl rfl
theorem dksL_law_50 : cL_law.data.toList.drop 1397 = dktL_law_50 := dk_seg dksL_law_49 24 rfl rfl
theorem dksL_law_51 : cL_law.data.toList.drop 1421 = dktL_law_51 := dk_seg dksL_law_50 24 rfl rfl
theorem dksL_law_52 : cL_law.data.toList.drop 1445 = dktL_law_52 := dk_seg dksL_law_51 24 rfl rfl
theorem dksL_law_53 : cL_law.data.toList.drop 1469 = dktL_law_53 := dk_seg dksL_law_52 24 rfl rfl
theorem dksL_law_54 : cL_law.data.toList.drop 1493 = dktL_law_54 := dk_seg dksL_law_53 24 rfl rfl
theorem dksL_law_55 : cL_law.data.toList.drop 1515 = dktL_law_55 := dk_seg dksL_law_54 22 rfl rfl
theorem dksL_law_56 : cL_law.data.toList.drop 1537 = dktL_law_56 := dk_seg dksL_law_55 22 rfl rfl
theorem dksL_law_57 : cL_law.data.toList.drop 1561 = dktL_law_57 := dk_seg dksL_law_56 24 rfl rfl
theorem dksL_law_58 : cL_law.data.toList.drop 1585 = dktL_law_58 := dk_seg dksL_law_57 24 rfl rfl
theorem dksL_law_59 : cL_law.data.toList.drop 1607 = dktL_law_59 := dk_seg dksL_law_58 22 rfl rfl
theorem dksL_law_60 : cL_law.data.toList.drop 1630 = dktL_law_60 := dk_seg dksL_law_59 23 rfl rfl
theorem dksL_law_61 : cL_law.data.toList.drop 1653 = dktL_law_61 := dk_seg dksL_law_60 23 rfl rfl
theorem dksL_law_62 : cL_law.data.toList.drop 1676 = dktL_law_62 := dk_seg dksL_law_61 23 rfl rfl
theorem dksL_law_63 : cL_law.data.toList.drop 1699 = dktL_law_63 := dk_seg dksL_law_62 23 rfl rfl
theorem dksL_law_64 : cL_law.data.toList.drop 1723 = dktL_law_64 := dk_seg dksL_law_63 24 rfl rfl
theorem dksL_law_65 : cL_law.data.toList.drop 1747 = dktL_law_65 := dk_seg dksL_law_64 24 rfl rfl
theorem dksL_law_66 : cL_law.data.toList.drop 1771 = dktL_law_66 := dk_seg dksL_law_65 24 rfl rfl
theorem dksL_law_67 : cL_law.data.toList.drop 1795 = dktL_law_67 := dk_seg dksL_law_66 24 rfl rfl
theorem dksL_law_68 : cL_law.data.toList.drop 1819 = dktL_law_68 := dk_seg dksL_law_67 24 rfl rfl
theorem dksL_law_69 : cL_law.data.toList.drop 1843 = dktL_law_69 := dk_seg dksL_law_68 24 rfl rfl
theorem dksL_law_70 : cL_law.data.toList.drop 1867 = dktL_law_70 := dk_seg dksL_law_69 24 rfl rfl
theorem dksL_law_71 : cL_law.data.toList.drop 1891 = dktL_law_71 := dk_seg dksL_law_70 24 rfl rfl
theorem dksL_law_72 : cL_law.data.toList.drop 1915 = dktL_law_72 := dk_seg dksL_law_71 24 rfl rfl
theorem dksL_law_73 : cL_law.data.toList.drop 1939 = dktL_law_73 := dk_seg dksL_law_72 24 rfl rfl
theorem dksL_law_74 : cL_law.data.toList.drop 1963 = dktL_law_74 := dk_seg dksL_law_73 24 rfl rfl
theorem dksL_law_75 : cL_law.data.toList.drop 1987 = dktL_law_75 := dk_seg dksL_law_74 24 rfl rfl
theorem dL_law_0 : decode cL_law 0 = .ok (.new 7, 3) := dk_187 0 7 (dk_at dksL_law_0 0 rfl rfl)
theorem dL_law_3 : decode cL_law 3 = .ok (.dup, 1) := dk_89 (dk_at dksL_law_0 3 rfl rfl)
theorem dL_law_4 : decode cL_law 4 = .ok (.invokespecial 9, 3) := dk_183 0 9 (dk_at dksL_law_0 4 rfl rfl)
theorem dL_law_7 : decode cL_law 7 = .ok (.astore_n 1, 1) := dk_76 (dk_at dksL_law_0 7 rfl rfl)
theorem dL_law_8 : decode cL_law 8 = .ok (.new 10, 3) := dk_187 0 10 (dk_at dksL_law_0 8 rfl rfl)
theorem dL_law_11 : decode cL_law 11 = .ok (.dup, 1) := dk_89 (dk_at dksL_law_0 11 rfl rfl)
theorem dL_law_12 : decode cL_law 12 = .ok (.invokespecial 12, 3) := dk_183 0 12 (dk_at dksL_law_0 12 rfl rfl)
theorem dL_law_15 : decode cL_law 15 = .ok (.astore_n 2, 1) := dk_77 (dk_at dksL_law_0 15 rfl rfl)
theorem dL_law_16 : decode cL_law 16 = .ok (.iconst 0, 1) := dk_3 (dk_at dksL_law_0 16 rfl rfl)
theorem dL_law_17 : decode cL_law 17 = .ok (.istore_n 3, 1) := dk_62 (dk_at dksL_law_0 17 rfl rfl)
theorem dL_law_18 : decode cL_law 18 = .ok (.iload_n 3, 1) := dk_29 (dk_at dksL_law_0 18 rfl rfl)
theorem dL_law_19 : decode cL_law 19 = .ok (.aload_n 0, 1) := dk_42 (dk_at dksL_law_0 19 rfl rfl)
theorem dL_law_20 : decode cL_law 20 = .ok (.arraylength, 1) := dk_190 (dk_at dksL_law_0 20 rfl rfl)
theorem dL_law_21 : decode cL_law 21 = .ok (.bipush 6, 2) := dk_16 6 (dk_at dksL_law_0 21 rfl rfl)
theorem dL_law_23 : decode cL_law 23 = .ok (.isub, 1) := dk_100 (dk_at dksL_law_0 23 rfl rfl)
theorem dL_law_24 : decode cL_law 24 = .ok (.if_icmp .gt 1978, 3) := dk_163 7 186 (dk_at dksL_law_1 0 rfl rfl)
theorem dL_law_27 : decode cL_law 27 = .ok (.aload_n 0, 1) := dk_42 (dk_at dksL_law_1 3 rfl rfl)
theorem dL_law_28 : decode cL_law 28 = .ok (.iload_n 3, 1) := dk_29 (dk_at dksL_law_1 4 rfl rfl)
theorem dL_law_29 : decode cL_law 29 = .ok (.iaload, 1) := dk_46 (dk_at dksL_law_1 5 rfl rfl)
theorem dL_law_30 : decode cL_law 30 = .ok (.bipush 63, 2) := dk_16 63 (dk_at dksL_law_1 6 rfl rfl)
theorem dL_law_32 : decode cL_law 32 = .ok (.iand, 1) := dk_126 (dk_at dksL_law_1 8 rfl rfl)
theorem dL_law_33 : decode cL_law 33 = .ok (.tableswitch 1963 0 58 #[251, 314, 337, 350, 373, 396, 429, 462, 485, 518, 541, 565, 589, 613, 647, 681, 705, 738, 772, 795, 808, 831, 844, 858, 881, 895, 928, 942, 986, 1019, 1052, 1085, 1118, 1141, 1164, 1198, 1237, 1251, 1264, 1277, 1301, 1345, 1399, 1422, 1466, 1509, 1533, 1546, 1579, 1602, 1625, 1648, 1671, 1715, 1738, 1761, 1784, 1827, 1900], 251) := by decide +kernel
theorem dL_law_284 : decode cL_law 284 = .ok (.aload_n 1, 1) := dk_43 (dk_at dksL_law_3 0 rfl rfl)
theorem dL_law_285 : decode cL_law 285 = .ok (.aload_n 0, 1) := dk_42 (dk_at dksL_law_3 1 rfl rfl)
theorem dL_law_286 : decode cL_law 286 = .ok (.iload_n 3, 1) := dk_29 (dk_at dksL_law_3 2 rfl rfl)
theorem dL_law_287 : decode cL_law 287 = .ok (.iconst 1, 1) := dk_4 (dk_at dksL_law_3 3 rfl rfl)
theorem dL_law_288 : decode cL_law 288 = .ok (.iadd, 1) := dk_96 (dk_at dksL_law_3 4 rfl rfl)
theorem dL_law_289 : decode cL_law 289 = .ok (.iaload, 1) := dk_46 (dk_at dksL_law_3 5 rfl rfl)
theorem dL_law_290 : decode cL_law 290 = .ok (.aload_n 0, 1) := dk_42 (dk_at dksL_law_3 6 rfl rfl)
theorem dL_law_291 : decode cL_law 291 = .ok (.iload_n 3, 1) := dk_29 (dk_at dksL_law_3 7 rfl rfl)
theorem dL_law_292 : decode cL_law 292 = .ok (.iconst 2, 1) := dk_5 (dk_at dksL_law_3 8 rfl rfl)
theorem dL_law_293 : decode cL_law 293 = .ok (.iadd, 1) := dk_96 (dk_at dksL_law_3 9 rfl rfl)
theorem dL_law_294 : decode cL_law 294 = .ok (.iaload, 1) := dk_46 (dk_at dksL_law_3 10 rfl rfl)
theorem dL_law_295 : decode cL_law 295 = .ok (.aload_n 0, 1) := dk_42 (dk_at dksL_law_3 11 rfl rfl)
theorem dL_law_296 : decode cL_law 296 = .ok (.iload_n 3, 1) := dk_29 (dk_at dksL_law_3 12 rfl rfl)
theorem dL_law_297 : decode cL_law 297 = .ok (.iconst 3, 1) := dk_6 (dk_at dksL_law_3 13 rfl rfl)
theorem dL_law_298 : decode cL_law 298 = .ok (.iadd, 1) := dk_96 (dk_at dksL_law_3 14 rfl rfl)
theorem dL_law_299 : decode cL_law 299 = .ok (.iaload, 1) := dk_46 (dk_at dksL_law_3 15 rfl rfl)
theorem dL_law_300 : decode cL_law 300 = .ok (.aload_n 0, 1) := dk_42 (dk_at dksL_law_3 16 rfl rfl)
theorem dL_law_301 : decode cL_law 301 = .ok (.iload_n 3, 1) := dk_29 (dk_at dksL_law_3 17 rfl rfl)
theorem dL_law_302 : decode cL_law 302 = .ok (.iconst 4, 1) := dk_7 (dk_at dksL_law_3 18 rfl rfl)
theorem dL_law_303 : decode cL_law 303 = .ok (.iadd, 1) := dk_96 (dk_at dksL_law_3 19 rfl rfl)
theorem dL_law_304 : decode cL_law 304 = .ok (.iaload, 1) := dk_46 (dk_at dksL_law_3 20 rfl rfl)
theorem dL_law_305 : decode cL_law 305 = .ok (.aload_n 0, 1) := dk_42 (dk_at dksL_law_3 21 rfl rfl)
theorem dL_law_306 : decode cL_law 306 = .ok (.iload_n 3, 1) := dk_29 (dk_at dksL_law_3 22 rfl rfl)
theorem dL_law_307 : decode cL_law 307 = .ok (.iconst 5, 1) := dk_8 (dk_at dksL_law_3 23 rfl rfl)
theorem dL_law_308 : decode cL_law 308 = .ok (.iadd, 1) := dk_96 (dk_at dksL_law_4 0 rfl rfl)
theorem dL_law_309 : decode cL_law 309 = .ok (.iaload, 1) := dk_46 (dk_at dksL_law_4 1 rfl rfl)
theorem dL_law_310 : decode cL_law 310 = .ok (.invokevirtual 13, 3) := dk_182 0 13 (dk_at dksL_law_4 2 rfl rfl)
theorem dL_law_313 : decode cL_law 313 = .ok (.aload_n 2, 1) := dk_44 (dk_at dksL_law_4 5 rfl rfl)
theorem dL_law_314 : decode cL_law 314 = .ok (.aload_n 0, 1) := dk_42 (dk_at dksL_law_4 6 rfl rfl)
theorem dL_law_315 : decode cL_law 315 = .ok (.iload_n 3, 1) := dk_29 (dk_at dksL_law_4 7 rfl rfl)
theorem dL_law_316 : decode cL_law 316 = .ok (.iconst 1, 1) := dk_4 (dk_at dksL_law_4 8 rfl rfl)
theorem dL_law_317 : decode cL_law 317 = .ok (.iadd, 1) := dk_96 (dk_at dksL_law_4 9 rfl rfl)
theorem dL_law_318 : decode cL_law 318 = .ok (.iaload, 1) := dk_46 (dk_at dksL_law_4 10 rfl rfl)
theorem dL_law_319 : decode cL_law 319 = .ok (.aload_n 0, 1) := dk_42 (dk_at dksL_law_4 11 rfl rfl)
theorem dL_law_320 : decode cL_law 320 = .ok (.iload_n 3, 1) := dk_29 (dk_at dksL_law_4 12 rfl rfl)
theorem dL_law_321 : decode cL_law 321 = .ok (.iconst 2, 1) := dk_5 (dk_at dksL_law_4 13 rfl rfl)
theorem dL_law_322 : decode cL_law 322 = .ok (.iadd, 1) := dk_96 (dk_at dksL_law_4 14 rfl rfl)
theorem dL_law_323 : decode cL_law 323 = .ok (.iaload, 1) := dk_46 (dk_at dksL_law_4 15 rfl rfl)
theorem dL_law_324 : decode cL_law 324 = .ok (.aload_n 0, 1) := dk_42 (dk_at dksL_law_4 16 rfl rfl)
theorem dL_law_325 : decode cL_law 325 = .ok (.iload_n 3, 1) := dk_29 (dk_at dksL_law_4 17 rfl rfl)
theorem dL_law_326 : decode cL_law 326 = .ok (.iconst 3, 1) := dk_6 (dk_at dksL_law_4 18 rfl rfl)
theorem dL_law_327 : decode cL_law 327 = .ok (.iadd, 1) := dk_96 (dk_at dksL_law_4 19 rfl rfl)
theorem dL_law_328 : decode cL_law 328 = .ok (.iaload, 1) := dk_46 (dk_at dksL_law_4 20 rfl rfl)
theorem dL_law_329 : decode cL_law 329 = .ok (.aload_n 0, 1) := dk_42 (dk_at dksL_law_4 21 rfl rfl)
theorem dL_law_330 : decode cL_law 330 = .ok (.iload_n 3, 1) := dk_29 (dk_at dksL_law_4 22 rfl rfl)
theorem dL_law_331 : decode cL_law 331 = .ok (.iconst 4, 1) := dk_7 (dk_at dksL_law_4 23 rfl rfl)
theorem dL_law_332 : decode cL_law 332 = .ok (.iadd, 1) := dk_96 (dk_at dksL_law_5 0 rfl rfl)
theorem dL_law_333 : decode cL_law 333 = .ok (.iaload, 1) := dk_46 (dk_at dksL_law_5 1 rfl rfl)
theorem dL_law_334 : decode cL_law 334 = .ok (.aload_n 0, 1) := dk_42 (dk_at dksL_law_5 2 rfl rfl)
theorem dL_law_335 : decode cL_law 335 = .ok (.iload_n 3, 1) := dk_29 (dk_at dksL_law_5 3 rfl rfl)
theorem dL_law_336 : decode cL_law 336 = .ok (.iconst 5, 1) := dk_8 (dk_at dksL_law_5 4 rfl rfl)
theorem dL_law_337 : decode cL_law 337 = .ok (.iadd, 1) := dk_96 (dk_at dksL_law_5 5 rfl rfl)
theorem dL_law_338 : decode cL_law 338 = .ok (.iaload, 1) := dk_46 (dk_at dksL_law_5 6 rfl rfl)
theorem dL_law_339 : decode cL_law 339 = .ok (.invokevirtual 17, 3) := dk_182 0 17 (dk_at dksL_law_5 7 rfl rfl)
theorem dL_law_342 : decode cL_law 342 = .ok (.if_icmp .eq 1654, 3) := dk_159 6 118 (dk_at dksL_law_5 10 rfl rfl)
theorem dL_law_345 : decode cL_law 345 = .ok (.iconst 0, 1) := dk_3 (dk_at dksL_law_5 13 rfl rfl)
theorem dL_law_346 : decode cL_law 346 = .ok (.ireturn, 1) := dk_172 (dk_at dksL_law_5 14 rfl rfl)
theorem dL_law_347 : decode cL_law 347 = .ok (.aload_n 1, 1) := dk_43 (dk_at dksL_law_5 15 rfl rfl)
theorem dL_law_348 : decode cL_law 348 = .ok (.aload_n 0, 1) := dk_42 (dk_at dksL_law_5 16 rfl rfl)
theorem dL_law_349 : decode cL_law 349 = .ok (.iload_n 3, 1) := dk_29 (dk_at dksL_law_5 17 rfl rfl)
theorem dL_law_350 : decode cL_law 350 = .ok (.iconst 1, 1) := dk_4 (dk_at dksL_law_5 18 rfl rfl)
theorem dL_law_351 : decode cL_law 351 = .ok (.iadd, 1) := dk_96 (dk_at dksL_law_5 19 rfl rfl)
theorem dL_law_352 : decode cL_law 352 = .ok (.iaload, 1) := dk_46 (dk_at dksL_law_5 20 rfl rfl)
theorem dL_law_353 : decode cL_law 353 = .ok (.invokevirtual 18, 3) := dk_182 0 18 (dk_at dksL_law_5 21 rfl rfl)
theorem dL_law_356 : decode cL_law 356 = .ok (.aload_n 2, 1) := dk_44 (dk_at dksL_law_6 0 rfl rfl)
theorem dL_law_357 : decode cL_law 357 = .ok (.aload_n 0, 1) := dk_42 (dk_at dksL_law_6 1 rfl rfl)
theorem dL_law_358 : decode cL_law 358 = .ok (.iload_n 3, 1) := dk_29 (dk_at dksL_law_6 2 rfl rfl)
theorem dL_law_359 : decode cL_law 359 = .ok (.iconst 1, 1) := dk_4 (dk_at dksL_law_6 3 rfl rfl)
theorem dL_law_360 : decode cL_law 360 = .ok (.iadd, 1) := dk_96 (dk_at dksL_law_6 4 rfl rfl)
theorem dL_law_361 : decode cL_law 361 = .ok (.iaload, 1) := dk_46 (dk_at dksL_law_6 5 rfl rfl)
theorem dL_law_362 : decode cL_law 362 = .ok (.invokevirtual 22, 3) := dk_182 0 22 (dk_at dksL_law_6 6 rfl rfl)
theorem dL_law_365 : decode cL_law 365 = .ok (.if_icmp .eq 1631, 3) := dk_159 6 95 (dk_at dksL_law_6 9 rfl rfl)
theorem dL_law_368 : decode cL_law 368 = .ok (.iconst 0, 1) := dk_3 (dk_at dksL_law_6 12 rfl rfl)
theorem dL_law_369 : decode cL_law 369 = .ok (.ireturn, 1) := dk_172 (dk_at dksL_law_6 13 rfl rfl)
theorem dL_law_370 : decode cL_law 370 = .ok (.aload_n 1, 1) := dk_43 (dk_at dksL_law_6 14 rfl rfl)
theorem dL_law_371 : decode cL_law 371 = .ok (.invokevirtual 23, 3) := dk_182 0 23 (dk_at dksL_law_6 15 rfl rfl)
theorem dL_law_374 : decode cL_law 374 = .ok (.aload_n 2, 1) := dk_44 (dk_at dksL_law_6 18 rfl rfl)
theorem dL_law_375 : decode cL_law 375 = .ok (.invokevirtual 27, 3) := dk_182 0 27 (dk_at dksL_law_6 19 rfl rfl)
theorem dL_law_378 : decode cL_law 378 = .ok (.if_icmp .eq 1618, 3) := dk_159 6 82 (dk_at dksL_law_7 0 rfl rfl)
theorem dL_law_381 : decode cL_law 381 = .ok (.iconst 0, 1) := dk_3 (dk_at dksL_law_7 3 rfl rfl)
theorem dL_law_382 : decode cL_law 382 = .ok (.ireturn, 1) := dk_172 (dk_at dksL_law_7 4 rfl rfl)
theorem dL_law_383 : decode cL_law 383 = .ok (.aload_n 1, 1) := dk_43 (dk_at dksL_law_7 5 rfl rfl)
theorem dL_law_384 : decode cL_law 384 = .ok (.aload_n 0, 1) := dk_42 (dk_at dksL_law_7 6 rfl rfl)
theorem dL_law_385 : decode cL_law 385 = .ok (.iload_n 3, 1) := dk_29 (dk_at dksL_law_7 7 rfl rfl)
theorem dL_law_386 : decode cL_law 386 = .ok (.iconst 1, 1) := dk_4 (dk_at dksL_law_7 8 rfl rfl)
theorem dL_law_387 : decode cL_law 387 = .ok (.iadd, 1) := dk_96 (dk_at dksL_law_7 9 rfl rfl)
theorem dL_law_388 : decode cL_law 388 = .ok (.iaload, 1) := dk_46 (dk_at dksL_law_7 10 rfl rfl)
theorem dL_law_389 : decode cL_law 389 = .ok (.invokevirtual 28, 3) := dk_182 0 28 (dk_at dksL_law_7 11 rfl rfl)
theorem dL_law_392 : decode cL_law 392 = .ok (.aload_n 2, 1) := dk_44 (dk_at dksL_law_7 14 rfl rfl)
theorem dL_law_393 : decode cL_law 393 = .ok (.aload_n 0, 1) := dk_42 (dk_at dksL_law_7 15 rfl rfl)
theorem dL_law_394 : decode cL_law 394 = .ok (.iload_n 3, 1) := dk_29 (dk_at dksL_law_7 16 rfl rfl)
theorem dL_law_395 : decode cL_law 395 = .ok (.iconst 1, 1) := dk_4 (dk_at dksL_law_7 17 rfl rfl)
theorem dL_law_396 : decode cL_law 396 = .ok (.iadd, 1) := dk_96 (dk_at dksL_law_7 18 rfl rfl)
theorem dL_law_397 : decode cL_law 397 = .ok (.iaload, 1) := dk_46 (dk_at dksL_law_7 19 rfl rfl)
theorem dL_law_398 : decode cL_law 398 = .ok (.invokevirtual 31, 3) := dk_182 0 31 (dk_at dksL_law_7 20 rfl rfl)
theorem dL_law_401 : decode cL_law 401 = .ok (.if_icmp .eq 1595, 3) := dk_159 6 59 (dk_at dksL_law_8 0 rfl rfl)
theorem dL_law_404 : decode cL_law 404 = .ok (.iconst 0, 1) := dk_3 (dk_at dksL_law_8 3 rfl rfl)
theorem dL_law_405 : decode cL_law 405 = .ok (.ireturn, 1) := dk_172 (dk_at dksL_law_8 4 rfl rfl)
theorem dL_law_406 : decode cL_law 406 = .ok (.aload_n 1, 1) := dk_43 (dk_at dksL_law_8 5 rfl rfl)
theorem dL_law_407 : decode cL_law 407 = .ok (.aload_n 0, 1) := dk_42 (dk_at dksL_law_8 6 rfl rfl)
theorem dL_law_408 : decode cL_law 408 = .ok (.iload_n 3, 1) := dk_29 (dk_at dksL_law_8 7 rfl rfl)
theorem dL_law_409 : decode cL_law 409 = .ok (.iconst 1, 1) := dk_4 (dk_at dksL_law_8 8 rfl rfl)
theorem dL_law_410 : decode cL_law 410 = .ok (.iadd, 1) := dk_96 (dk_at dksL_law_8 9 rfl rfl)
theorem dL_law_411 : decode cL_law 411 = .ok (.iaload, 1) := dk_46 (dk_at dksL_law_8 10 rfl rfl)
theorem dL_law_412 : decode cL_law 412 = .ok (.invokevirtual 32, 3) := dk_182 0 32 (dk_at dksL_law_8 11 rfl rfl)
theorem dL_law_415 : decode cL_law 415 = .ok (.aload_n 2, 1) := dk_44 (dk_at dksL_law_8 14 rfl rfl)
theorem dL_law_416 : decode cL_law 416 = .ok (.aload_n 0, 1) := dk_42 (dk_at dksL_law_8 15 rfl rfl)
theorem dL_law_417 : decode cL_law 417 = .ok (.iload_n 3, 1) := dk_29 (dk_at dksL_law_8 16 rfl rfl)
theorem dL_law_418 : decode cL_law 418 = .ok (.iconst 1, 1) := dk_4 (dk_at dksL_law_8 17 rfl rfl)
theorem dL_law_419 : decode cL_law 419 = .ok (.iadd, 1) := dk_96 (dk_at dksL_law_8 18 rfl rfl)
theorem dL_law_420 : decode cL_law 420 = .ok (.iaload, 1) := dk_46 (dk_at dksL_law_8 19 rfl rfl)
theorem dL_law_421 : decode cL_law 421 = .ok (.invokevirtual 35, 3) := dk_182 0 35 (dk_at dksL_law_8 20 rfl rfl)
theorem dL_law_424 : decode cL_law 424 = .ok (.if_icmp .eq 1572, 3) := dk_159 6 36 (dk_at dksL_law_9 0 rfl rfl)
theorem dL_law_427 : decode cL_law 427 = .ok (.iconst 0, 1) := dk_3 (dk_at dksL_law_9 3 rfl rfl)
theorem dL_law_428 : decode cL_law 428 = .ok (.ireturn, 1) := dk_172 (dk_at dksL_law_9 4 rfl rfl)
theorem dL_law_429 : decode cL_law 429 = .ok (.aload_n 1, 1) := dk_43 (dk_at dksL_law_9 5 rfl rfl)
theorem dL_law_430 : decode cL_law 430 = .ok (.aload_n 0, 1) := dk_42 (dk_at dksL_law_9 6 rfl rfl)
theorem dL_law_431 : decode cL_law 431 = .ok (.iload_n 3, 1) := dk_29 (dk_at dksL_law_9 7 rfl rfl)
theorem dL_law_432 : decode cL_law 432 = .ok (.iconst 1, 1) := dk_4 (dk_at dksL_law_9 8 rfl rfl)
theorem dL_law_433 : decode cL_law 433 = .ok (.iadd, 1) := dk_96 (dk_at dksL_law_9 9 rfl rfl)
theorem dL_law_434 : decode cL_law 434 = .ok (.iaload, 1) := dk_46 (dk_at dksL_law_9 10 rfl rfl)
theorem dL_law_435 : decode cL_law 435 = .ok (.aload_n 0, 1) := dk_42 (dk_at dksL_law_9 11 rfl rfl)
theorem dL_law_436 : decode cL_law 436 = .ok (.iload_n 3, 1) := dk_29 (dk_at dksL_law_9 12 rfl rfl)
theorem dL_law_437 : decode cL_law 437 = .ok (.iconst 2, 1) := dk_5 (dk_at dksL_law_9 13 rfl rfl)
theorem dL_law_438 : decode cL_law 438 = .ok (.iadd, 1) := dk_96 (dk_at dksL_law_9 14 rfl rfl)
theorem dL_law_439 : decode cL_law 439 = .ok (.iaload, 1) := dk_46 (dk_at dksL_law_9 15 rfl rfl)
theorem dL_law_440 : decode cL_law 440 = .ok (.invokevirtual 36, 3) := dk_182 0 36 (dk_at dksL_law_9 16 rfl rfl)
theorem dL_law_443 : decode cL_law 443 = .ok (.aload_n 2, 1) := dk_44 (dk_at dksL_law_9 19 rfl rfl)
theorem dL_law_444 : decode cL_law 444 = .ok (.aload_n 0, 1) := dk_42 (dk_at dksL_law_9 20 rfl rfl)
theorem dL_law_445 : decode cL_law 445 = .ok (.iload_n 3, 1) := dk_29 (dk_at dksL_law_9 21 rfl rfl)
theorem dL_law_446 : decode cL_law 446 = .ok (.iconst 1, 1) := dk_4 (dk_at dksL_law_9 22 rfl rfl)
theorem dL_law_447 : decode cL_law 447 = .ok (.iadd, 1) := dk_96 (dk_at dksL_law_9 23 rfl rfl)
theorem dL_law_448 : decode cL_law 448 = .ok (.iaload, 1) := dk_46 (dk_at dksL_law_10 0 rfl rfl)
theorem dL_law_449 : decode cL_law 449 = .ok (.aload_n 0, 1) := dk_42 (dk_at dksL_law_10 1 rfl rfl)
theorem dL_law_450 : decode cL_law 450 = .ok (.iload_n 3, 1) := dk_29 (dk_at dksL_law_10 2 rfl rfl)
theorem dL_law_451 : decode cL_law 451 = .ok (.iconst 2, 1) := dk_5 (dk_at dksL_law_10 3 rfl rfl)
theorem dL_law_452 : decode cL_law 452 = .ok (.iadd, 1) := dk_96 (dk_at dksL_law_10 4 rfl rfl)
theorem dL_law_453 : decode cL_law 453 = .ok (.iaload, 1) := dk_46 (dk_at dksL_law_10 5 rfl rfl)
theorem dL_law_454 : decode cL_law 454 = .ok (.invokevirtual 40, 3) := dk_182 0 40 (dk_at dksL_law_10 6 rfl rfl)
theorem dL_law_457 : decode cL_law 457 = .ok (.if_icmp .eq 1539, 3) := dk_159 6 3 (dk_at dksL_law_10 9 rfl rfl)
theorem dL_law_460 : decode cL_law 460 = .ok (.iconst 0, 1) := dk_3 (dk_at dksL_law_10 12 rfl rfl)
theorem dL_law_461 : decode cL_law 461 = .ok (.ireturn, 1) := dk_172 (dk_at dksL_law_10 13 rfl rfl)
theorem dL_law_462 : decode cL_law 462 = .ok (.aload_n 1, 1) := dk_43 (dk_at dksL_law_10 14 rfl rfl)
theorem dL_law_463 : decode cL_law 463 = .ok (.aload_n 0, 1) := dk_42 (dk_at dksL_law_10 15 rfl rfl)
theorem dL_law_464 : decode cL_law 464 = .ok (.iload_n 3, 1) := dk_29 (dk_at dksL_law_10 16 rfl rfl)
theorem dL_law_465 : decode cL_law 465 = .ok (.iconst 1, 1) := dk_4 (dk_at dksL_law_10 17 rfl rfl)
theorem dL_law_466 : decode cL_law 466 = .ok (.iadd, 1) := dk_96 (dk_at dksL_law_10 18 rfl rfl)
theorem dL_law_467 : decode cL_law 467 = .ok (.iaload, 1) := dk_46 (dk_at dksL_law_10 19 rfl rfl)
theorem dL_law_468 : decode cL_law 468 = .ok (.aload_n 0, 1) := dk_42 (dk_at dksL_law_10 20 rfl rfl)
theorem dL_law_469 : decode cL_law 469 = .ok (.iload_n 3, 1) := dk_29 (dk_at dksL_law_10 21 rfl rfl)
theorem dL_law_470 : decode cL_law 470 = .ok (.iconst 2, 1) := dk_5 (dk_at dksL_law_10 22 rfl rfl)
theorem dL_law_471 : decode cL_law 471 = .ok (.iadd, 1) := dk_96 (dk_at dksL_law_10 23 rfl rfl)
theorem dL_law_472 : decode cL_law 472 = .ok (.iaload, 1) := dk_46 (dk_at dksL_law_11 0 rfl rfl)
theorem dL_law_473 : decode cL_law 473 = .ok (.invokevirtual 41, 3) := dk_182 0 41 (dk_at dksL_law_11 1 rfl rfl)
theorem dL_law_476 : decode cL_law 476 = .ok (.aload_n 2, 1) := dk_44 (dk_at dksL_law_11 4 rfl rfl)
theorem dL_law_477 : decode cL_law 477 = .ok (.aload_n 0, 1) := dk_42 (dk_at dksL_law_11 5 rfl rfl)
theorem dL_law_478 : decode cL_law 478 = .ok (.iload_n 3, 1) := dk_29 (dk_at dksL_law_11 6 rfl rfl)
theorem dL_law_479 : decode cL_law 479 = .ok (.iconst 1, 1) := dk_4 (dk_at dksL_law_11 7 rfl rfl)
theorem dL_law_480 : decode cL_law 480 = .ok (.iadd, 1) := dk_96 (dk_at dksL_law_11 8 rfl rfl)
theorem dL_law_481 : decode cL_law 481 = .ok (.iaload, 1) := dk_46 (dk_at dksL_law_11 9 rfl rfl)
theorem dL_law_482 : decode cL_law 482 = .ok (.aload_n 0, 1) := dk_42 (dk_at dksL_law_11 10 rfl rfl)
theorem dL_law_483 : decode cL_law 483 = .ok (.iload_n 3, 1) := dk_29 (dk_at dksL_law_11 11 rfl rfl)
theorem dL_law_484 : decode cL_law 484 = .ok (.iconst 2, 1) := dk_5 (dk_at dksL_law_11 12 rfl rfl)
theorem dL_law_485 : decode cL_law 485 = .ok (.iadd, 1) := dk_96 (dk_at dksL_law_11 13 rfl rfl)
theorem dL_law_486 : decode cL_law 486 = .ok (.iaload, 1) := dk_46 (dk_at dksL_law_11 14 rfl rfl)
theorem dL_law_487 : decode cL_law 487 = .ok (.invokevirtual 44, 3) := dk_182 0 44 (dk_at dksL_law_11 15 rfl rfl)
theorem dL_law_490 : decode cL_law 490 = .ok (.if_icmp .eq 1506, 3) := dk_159 5 226 (dk_at dksL_law_11 18 rfl rfl)
theorem dL_law_493 : decode cL_law 493 = .ok (.iconst 0, 1) := dk_3 (dk_at dksL_law_11 21 rfl rfl)
theorem dL_law_494 : decode cL_law 494 = .ok (.ireturn, 1) := dk_172 (dk_at dksL_law_11 22 rfl rfl)
theorem dL_law_495 : decode cL_law 495 = .ok (.aload_n 1, 1) := dk_43 (dk_at dksL_law_11 23 rfl rfl)
theorem dL_law_496 : decode cL_law 496 = .ok (.aload_n 0, 1) := dk_42 (dk_at dksL_law_12 0 rfl rfl)
theorem dL_law_497 : decode cL_law 497 = .ok (.iload_n 3, 1) := dk_29 (dk_at dksL_law_12 1 rfl rfl)
theorem dL_law_498 : decode cL_law 498 = .ok (.iconst 1, 1) := dk_4 (dk_at dksL_law_12 2 rfl rfl)
theorem dL_law_499 : decode cL_law 499 = .ok (.iadd, 1) := dk_96 (dk_at dksL_law_12 3 rfl rfl)
theorem dL_law_500 : decode cL_law 500 = .ok (.iaload, 1) := dk_46 (dk_at dksL_law_12 4 rfl rfl)
theorem dL_law_501 : decode cL_law 501 = .ok (.invokevirtual 45, 3) := dk_182 0 45 (dk_at dksL_law_12 5 rfl rfl)
theorem dL_law_504 : decode cL_law 504 = .ok (.aload_n 2, 1) := dk_44 (dk_at dksL_law_12 8 rfl rfl)
theorem dL_law_505 : decode cL_law 505 = .ok (.aload_n 0, 1) := dk_42 (dk_at dksL_law_12 9 rfl rfl)
theorem dL_law_506 : decode cL_law 506 = .ok (.iload_n 3, 1) := dk_29 (dk_at dksL_law_12 10 rfl rfl)
theorem dL_law_507 : decode cL_law 507 = .ok (.iconst 1, 1) := dk_4 (dk_at dksL_law_12 11 rfl rfl)
theorem dL_law_508 : decode cL_law 508 = .ok (.iadd, 1) := dk_96 (dk_at dksL_law_12 12 rfl rfl)
theorem dL_law_509 : decode cL_law 509 = .ok (.iaload, 1) := dk_46 (dk_at dksL_law_12 13 rfl rfl)
theorem dL_law_510 : decode cL_law 510 = .ok (.invokevirtual 48, 3) := dk_182 0 48 (dk_at dksL_law_12 14 rfl rfl)
theorem dL_law_513 : decode cL_law 513 = .ok (.if_icmp .eq 1483, 3) := dk_159 5 203 (dk_at dksL_law_12 17 rfl rfl)
theorem dL_law_516 : decode cL_law 516 = .ok (.iconst 0, 1) := dk_3 (dk_at dksL_law_12 20 rfl rfl)
theorem dL_law_517 : decode cL_law 517 = .ok (.ireturn, 1) := dk_172 (dk_at dksL_law_12 21 rfl rfl)
theorem dL_law_518 : decode cL_law 518 = .ok (.aload_n 1, 1) := dk_43 (dk_at dksL_law_12 22 rfl rfl)
theorem dL_law_519 : decode cL_law 519 = .ok (.aload_n 0, 1) := dk_42 (dk_at dksL_law_12 23 rfl rfl)
theorem dL_law_520 : decode cL_law 520 = .ok (.iload_n 3, 1) := dk_29 (dk_at dksL_law_13 0 rfl rfl)
theorem dL_law_521 : decode cL_law 521 = .ok (.iconst 1, 1) := dk_4 (dk_at dksL_law_13 1 rfl rfl)
theorem dL_law_522 : decode cL_law 522 = .ok (.iadd, 1) := dk_96 (dk_at dksL_law_13 2 rfl rfl)
theorem dL_law_523 : decode cL_law 523 = .ok (.iaload, 1) := dk_46 (dk_at dksL_law_13 3 rfl rfl)
theorem dL_law_524 : decode cL_law 524 = .ok (.aload_n 0, 1) := dk_42 (dk_at dksL_law_13 4 rfl rfl)
theorem dL_law_525 : decode cL_law 525 = .ok (.iload_n 3, 1) := dk_29 (dk_at dksL_law_13 5 rfl rfl)
theorem dL_law_526 : decode cL_law 526 = .ok (.iconst 2, 1) := dk_5 (dk_at dksL_law_13 6 rfl rfl)
theorem dL_law_527 : decode cL_law 527 = .ok (.iadd, 1) := dk_96 (dk_at dksL_law_13 7 rfl rfl)
theorem dL_law_528 : decode cL_law 528 = .ok (.iaload, 1) := dk_46 (dk_at dksL_law_13 8 rfl rfl)
theorem dL_law_529 : decode cL_law 529 = .ok (.invokevirtual 49, 3) := dk_182 0 49 (dk_at dksL_law_13 9 rfl rfl)
theorem dL_law_532 : decode cL_law 532 = .ok (.aload_n 2, 1) := dk_44 (dk_at dksL_law_13 12 rfl rfl)
theorem dL_law_533 : decode cL_law 533 = .ok (.aload_n 0, 1) := dk_42 (dk_at dksL_law_13 13 rfl rfl)
theorem dL_law_534 : decode cL_law 534 = .ok (.iload_n 3, 1) := dk_29 (dk_at dksL_law_13 14 rfl rfl)
theorem dL_law_535 : decode cL_law 535 = .ok (.iconst 1, 1) := dk_4 (dk_at dksL_law_13 15 rfl rfl)
theorem dL_law_536 : decode cL_law 536 = .ok (.iadd, 1) := dk_96 (dk_at dksL_law_13 16 rfl rfl)
theorem dL_law_537 : decode cL_law 537 = .ok (.iaload, 1) := dk_46 (dk_at dksL_law_13 17 rfl rfl)
theorem dL_law_538 : decode cL_law 538 = .ok (.aload_n 0, 1) := dk_42 (dk_at dksL_law_13 18 rfl rfl)
theorem dL_law_539 : decode cL_law 539 = .ok (.iload_n 3, 1) := dk_29 (dk_at dksL_law_13 19 rfl rfl)
theorem dL_law_540 : decode cL_law 540 = .ok (.iconst 2, 1) := dk_5 (dk_at dksL_law_13 20 rfl rfl)
theorem dL_law_541 : decode cL_law 541 = .ok (.iadd, 1) := dk_96 (dk_at dksL_law_13 21 rfl rfl)
theorem dL_law_542 : decode cL_law 542 = .ok (.iaload, 1) := dk_46 (dk_at dksL_law_13 22 rfl rfl)
theorem dL_law_543 : decode cL_law 543 = .ok (.invokevirtual 52, 3) := dk_182 0 52 (dk_at dksL_law_14 0 rfl rfl)
theorem dL_law_546 : decode cL_law 546 = .ok (.if_icmp .eq 1450, 3) := dk_159 5 170 (dk_at dksL_law_14 3 rfl rfl)
theorem dL_law_549 : decode cL_law 549 = .ok (.iconst 0, 1) := dk_3 (dk_at dksL_law_14 6 rfl rfl)
theorem dL_law_550 : decode cL_law 550 = .ok (.ireturn, 1) := dk_172 (dk_at dksL_law_14 7 rfl rfl)
theorem dL_law_551 : decode cL_law 551 = .ok (.aload_n 1, 1) := dk_43 (dk_at dksL_law_14 8 rfl rfl)
theorem dL_law_552 : decode cL_law 552 = .ok (.aload_n 0, 1) := dk_42 (dk_at dksL_law_14 9 rfl rfl)
theorem dL_law_553 : decode cL_law 553 = .ok (.iload_n 3, 1) := dk_29 (dk_at dksL_law_14 10 rfl rfl)
theorem dL_law_554 : decode cL_law 554 = .ok (.iconst 1, 1) := dk_4 (dk_at dksL_law_14 11 rfl rfl)
theorem dL_law_555 : decode cL_law 555 = .ok (.iadd, 1) := dk_96 (dk_at dksL_law_14 12 rfl rfl)
theorem dL_law_556 : decode cL_law 556 = .ok (.iaload, 1) := dk_46 (dk_at dksL_law_14 13 rfl rfl)
theorem dL_law_557 : decode cL_law 557 = .ok (.invokevirtual 53, 3) := dk_182 0 53 (dk_at dksL_law_14 14 rfl rfl)
theorem dL_law_560 : decode cL_law 560 = .ok (.aload_n 2, 1) := dk_44 (dk_at dksL_law_14 17 rfl rfl)
theorem dL_law_561 : decode cL_law 561 = .ok (.aload_n 0, 1) := dk_42 (dk_at dksL_law_14 18 rfl rfl)
theorem dL_law_562 : decode cL_law 562 = .ok (.iload_n 3, 1) := dk_29 (dk_at dksL_law_14 19 rfl rfl)
theorem dL_law_563 : decode cL_law 563 = .ok (.iconst 1, 1) := dk_4 (dk_at dksL_law_14 20 rfl rfl)
theorem dL_law_564 : decode cL_law 564 = .ok (.iadd, 1) := dk_96 (dk_at dksL_law_14 21 rfl rfl)
theorem dL_law_565 : decode cL_law 565 = .ok (.iaload, 1) := dk_46 (dk_at dksL_law_14 22 rfl rfl)
theorem dL_law_566 : decode cL_law 566 = .ok (.invokevirtual 56, 3) := dk_182 0 56 (dk_at dksL_law_15 0 rfl rfl)
theorem dL_law_569 : decode cL_law 569 = .ok (.if_icmp .eq 1427, 3) := dk_159 5 147 (dk_at dksL_law_15 3 rfl rfl)
theorem dL_law_572 : decode cL_law 572 = .ok (.iconst 0, 1) := dk_3 (dk_at dksL_law_15 6 rfl rfl)
theorem dL_law_573 : decode cL_law 573 = .ok (.ireturn, 1) := dk_172 (dk_at dksL_law_15 7 rfl rfl)
theorem dL_law_574 : decode cL_law 574 = .ok (.aload_n 1, 1) := dk_43 (dk_at dksL_law_15 8 rfl rfl)
theorem dL_law_575 : decode cL_law 575 = .ok (.aload_n 0, 1) := dk_42 (dk_at dksL_law_15 9 rfl rfl)
theorem dL_law_576 : decode cL_law 576 = .ok (.iload_n 3, 1) := dk_29 (dk_at dksL_law_15 10 rfl rfl)
theorem dL_law_577 : decode cL_law 577 = .ok (.iconst 1, 1) := dk_4 (dk_at dksL_law_15 11 rfl rfl)
theorem dL_law_578 : decode cL_law 578 = .ok (.iadd, 1) := dk_96 (dk_at dksL_law_15 12 rfl rfl)
theorem dL_law_579 : decode cL_law 579 = .ok (.iaload, 1) := dk_46 (dk_at dksL_law_15 13 rfl rfl)
theorem dL_law_580 : decode cL_law 580 = .ok (.invokevirtual 57, 3) := dk_182 0 57 (dk_at dksL_law_15 14 rfl rfl)
theorem dL_law_583 : decode cL_law 583 = .ok (.aload_n 2, 1) := dk_44 (dk_at dksL_law_15 17 rfl rfl)
theorem dL_law_584 : decode cL_law 584 = .ok (.aload_n 0, 1) := dk_42 (dk_at dksL_law_15 18 rfl rfl)
theorem dL_law_585 : decode cL_law 585 = .ok (.iload_n 3, 1) := dk_29 (dk_at dksL_law_15 19 rfl rfl)
theorem dL_law_586 : decode cL_law 586 = .ok (.iconst 1, 1) := dk_4 (dk_at dksL_law_15 20 rfl rfl)
theorem dL_law_587 : decode cL_law 587 = .ok (.iadd, 1) := dk_96 (dk_at dksL_law_15 21 rfl rfl)
theorem dL_law_588 : decode cL_law 588 = .ok (.iaload, 1) := dk_46 (dk_at dksL_law_15 22 rfl rfl)
theorem dL_law_589 : decode cL_law 589 = .ok (.invokevirtual 61, 3) := dk_182 0 61 (dk_at dksL_law_16 0 rfl rfl)
theorem dL_law_592 : decode cL_law 592 = .ok (.lcmp, 1) := dk_148 (dk_at dksL_law_16 3 rfl rfl)
theorem dL_law_593 : decode cL_law 593 = .ok (.ifCond .eq 1403, 3) := dk_153 5 123 (dk_at dksL_law_16 4 rfl rfl)
theorem dL_law_596 : decode cL_law 596 = .ok (.iconst 0, 1) := dk_3 (dk_at dksL_law_16 7 rfl rfl)
theorem dL_law_597 : decode cL_law 597 = .ok (.ireturn, 1) := dk_172 (dk_at dksL_law_16 8 rfl rfl)
theorem dL_law_598 : decode cL_law 598 = .ok (.aload_n 1, 1) := dk_43 (dk_at dksL_law_16 9 rfl rfl)
theorem dL_law_599 : decode cL_law 599 = .ok (.aload_n 0, 1) := dk_42 (dk_at dksL_law_16 10 rfl rfl)
theorem dL_law_600 : decode cL_law 600 = .ok (.iload_n 3, 1) := dk_29 (dk_at dksL_law_16 11 rfl rfl)
theorem dL_law_601 : decode cL_law 601 = .ok (.iconst 1, 1) := dk_4 (dk_at dksL_law_16 12 rfl rfl)
theorem dL_law_602 : decode cL_law 602 = .ok (.iadd, 1) := dk_96 (dk_at dksL_law_16 13 rfl rfl)
theorem dL_law_603 : decode cL_law 603 = .ok (.iaload, 1) := dk_46 (dk_at dksL_law_16 14 rfl rfl)
theorem dL_law_604 : decode cL_law 604 = .ok (.invokevirtual 62, 3) := dk_182 0 62 (dk_at dksL_law_16 15 rfl rfl)
theorem dL_law_607 : decode cL_law 607 = .ok (.aload_n 2, 1) := dk_44 (dk_at dksL_law_16 18 rfl rfl)
theorem dL_law_608 : decode cL_law 608 = .ok (.aload_n 0, 1) := dk_42 (dk_at dksL_law_16 19 rfl rfl)
theorem dL_law_609 : decode cL_law 609 = .ok (.iload_n 3, 1) := dk_29 (dk_at dksL_law_16 20 rfl rfl)
theorem dL_law_610 : decode cL_law 610 = .ok (.iconst 1, 1) := dk_4 (dk_at dksL_law_16 21 rfl rfl)
theorem dL_law_611 : decode cL_law 611 = .ok (.iadd, 1) := dk_96 (dk_at dksL_law_16 22 rfl rfl)
theorem dL_law_612 : decode cL_law 612 = .ok (.iaload, 1) := dk_46 (dk_at dksL_law_16 23 rfl rfl)
theorem dL_law_613 : decode cL_law 613 = .ok (.invokevirtual 65, 3) := dk_182 0 65 (dk_at dksL_law_17 0 rfl rfl)
theorem dL_law_616 : decode cL_law 616 = .ok (.lcmp, 1) := dk_148 (dk_at dksL_law_17 3 rfl rfl)
theorem dL_law_617 : decode cL_law 617 = .ok (.ifCond .eq 1379, 3) := dk_153 5 99 (dk_at dksL_law_17 4 rfl rfl)
theorem dL_law_620 : decode cL_law 620 = .ok (.iconst 0, 1) := dk_3 (dk_at dksL_law_17 7 rfl rfl)
theorem dL_law_621 : decode cL_law 621 = .ok (.ireturn, 1) := dk_172 (dk_at dksL_law_17 8 rfl rfl)
theorem dL_law_622 : decode cL_law 622 = .ok (.aload_n 1, 1) := dk_43 (dk_at dksL_law_17 9 rfl rfl)
theorem dL_law_623 : decode cL_law 623 = .ok (.aload_n 0, 1) := dk_42 (dk_at dksL_law_17 10 rfl rfl)
theorem dL_law_624 : decode cL_law 624 = .ok (.iload_n 3, 1) := dk_29 (dk_at dksL_law_17 11 rfl rfl)
theorem dL_law_625 : decode cL_law 625 = .ok (.iconst 1, 1) := dk_4 (dk_at dksL_law_17 12 rfl rfl)
theorem dL_law_626 : decode cL_law 626 = .ok (.iadd, 1) := dk_96 (dk_at dksL_law_17 13 rfl rfl)
theorem dL_law_627 : decode cL_law 627 = .ok (.iaload, 1) := dk_46 (dk_at dksL_law_17 14 rfl rfl)
theorem dL_law_628 : decode cL_law 628 = .ok (.invokevirtual 66, 3) := dk_182 0 66 (dk_at dksL_law_17 15 rfl rfl)
theorem dL_law_631 : decode cL_law 631 = .ok (.aload_n 2, 1) := dk_44 (dk_at dksL_law_17 18 rfl rfl)
theorem dL_law_632 : decode cL_law 632 = .ok (.aload_n 0, 1) := dk_42 (dk_at dksL_law_17 19 rfl rfl)
theorem dL_law_633 : decode cL_law 633 = .ok (.iload_n 3, 1) := dk_29 (dk_at dksL_law_17 20 rfl rfl)
theorem dL_law_634 : decode cL_law 634 = .ok (.iconst 1, 1) := dk_4 (dk_at dksL_law_17 21 rfl rfl)
theorem dL_law_635 : decode cL_law 635 = .ok (.iadd, 1) := dk_96 (dk_at dksL_law_17 22 rfl rfl)
theorem dL_law_636 : decode cL_law 636 = .ok (.iaload, 1) := dk_46 (dk_at dksL_law_17 23 rfl rfl)
theorem dL_law_637 : decode cL_law 637 = .ok (.invokevirtual 69, 3) := dk_182 0 69 (dk_at dksL_law_18 0 rfl rfl)
theorem dL_law_640 : decode cL_law 640 = .ok (.lcmp, 1) := dk_148 (dk_at dksL_law_18 3 rfl rfl)
theorem dL_law_641 : decode cL_law 641 = .ok (.ifCond .eq 1355, 3) := dk_153 5 75 (dk_at dksL_law_18 4 rfl rfl)
theorem dL_law_644 : decode cL_law 644 = .ok (.iconst 0, 1) := dk_3 (dk_at dksL_law_18 7 rfl rfl)
theorem dL_law_645 : decode cL_law 645 = .ok (.ireturn, 1) := dk_172 (dk_at dksL_law_18 8 rfl rfl)
theorem dL_law_646 : decode cL_law 646 = .ok (.aload_n 1, 1) := dk_43 (dk_at dksL_law_18 9 rfl rfl)
theorem dL_law_647 : decode cL_law 647 = .ok (.aload_n 0, 1) := dk_42 (dk_at dksL_law_18 10 rfl rfl)
theorem dL_law_648 : decode cL_law 648 = .ok (.iload_n 3, 1) := dk_29 (dk_at dksL_law_18 11 rfl rfl)
theorem dL_law_649 : decode cL_law 649 = .ok (.iconst 1, 1) := dk_4 (dk_at dksL_law_18 12 rfl rfl)
theorem dL_law_650 : decode cL_law 650 = .ok (.iadd, 1) := dk_96 (dk_at dksL_law_18 13 rfl rfl)
theorem dL_law_651 : decode cL_law 651 = .ok (.iaload, 1) := dk_46 (dk_at dksL_law_18 14 rfl rfl)
theorem dL_law_652 : decode cL_law 652 = .ok (.aload_n 0, 1) := dk_42 (dk_at dksL_law_18 15 rfl rfl)
theorem dL_law_653 : decode cL_law 653 = .ok (.iload_n 3, 1) := dk_29 (dk_at dksL_law_18 16 rfl rfl)
theorem dL_law_654 : decode cL_law 654 = .ok (.iconst 2, 1) := dk_5 (dk_at dksL_law_18 17 rfl rfl)
theorem dL_law_655 : decode cL_law 655 = .ok (.iadd, 1) := dk_96 (dk_at dksL_law_18 18 rfl rfl)
theorem dL_law_656 : decode cL_law 656 = .ok (.iaload, 1) := dk_46 (dk_at dksL_law_18 19 rfl rfl)
theorem dL_law_657 : decode cL_law 657 = .ok (.invokevirtual 70, 3) := dk_182 0 70 (dk_at dksL_law_18 20 rfl rfl)
theorem dL_law_660 : decode cL_law 660 = .ok (.aload_n 2, 1) := dk_44 (dk_at dksL_law_18 23 rfl rfl)
theorem dL_law_661 : decode cL_law 661 = .ok (.aload_n 0, 1) := dk_42 (dk_at dksL_law_19 0 rfl rfl)
theorem dL_law_662 : decode cL_law 662 = .ok (.iload_n 3, 1) := dk_29 (dk_at dksL_law_19 1 rfl rfl)
theorem dL_law_663 : decode cL_law 663 = .ok (.iconst 1, 1) := dk_4 (dk_at dksL_law_19 2 rfl rfl)
theorem dL_law_664 : decode cL_law 664 = .ok (.iadd, 1) := dk_96 (dk_at dksL_law_19 3 rfl rfl)
theorem dL_law_665 : decode cL_law 665 = .ok (.iaload, 1) := dk_46 (dk_at dksL_law_19 4 rfl rfl)
theorem dL_law_666 : decode cL_law 666 = .ok (.aload_n 0, 1) := dk_42 (dk_at dksL_law_19 5 rfl rfl)
theorem dL_law_667 : decode cL_law 667 = .ok (.iload_n 3, 1) := dk_29 (dk_at dksL_law_19 6 rfl rfl)
theorem dL_law_668 : decode cL_law 668 = .ok (.iconst 2, 1) := dk_5 (dk_at dksL_law_19 7 rfl rfl)
theorem dL_law_669 : decode cL_law 669 = .ok (.iadd, 1) := dk_96 (dk_at dksL_law_19 8 rfl rfl)
theorem dL_law_670 : decode cL_law 670 = .ok (.iaload, 1) := dk_46 (dk_at dksL_law_19 9 rfl rfl)
theorem dL_law_671 : decode cL_law 671 = .ok (.invokevirtual 74, 3) := dk_182 0 74 (dk_at dksL_law_19 10 rfl rfl)
theorem dL_law_674 : decode cL_law 674 = .ok (.lcmp, 1) := dk_148 (dk_at dksL_law_19 13 rfl rfl)
theorem dL_law_675 : decode cL_law 675 = .ok (.ifCond .eq 1321, 3) := dk_153 5 41 (dk_at dksL_law_19 14 rfl rfl)
theorem dL_law_678 : decode cL_law 678 = .ok (.iconst 0, 1) := dk_3 (dk_at dksL_law_19 17 rfl rfl)
theorem dL_law_679 : decode cL_law 679 = .ok (.ireturn, 1) := dk_172 (dk_at dksL_law_19 18 rfl rfl)
theorem dL_law_680 : decode cL_law 680 = .ok (.aload_n 1, 1) := dk_43 (dk_at dksL_law_19 19 rfl rfl)
theorem dL_law_681 : decode cL_law 681 = .ok (.aload_n 0, 1) := dk_42 (dk_at dksL_law_19 20 rfl rfl)
theorem dL_law_682 : decode cL_law 682 = .ok (.iload_n 3, 1) := dk_29 (dk_at dksL_law_19 21 rfl rfl)
theorem dL_law_683 : decode cL_law 683 = .ok (.iconst 1, 1) := dk_4 (dk_at dksL_law_19 22 rfl rfl)
theorem dL_law_684 : decode cL_law 684 = .ok (.iadd, 1) := dk_96 (dk_at dksL_law_19 23 rfl rfl)
theorem dL_law_685 : decode cL_law 685 = .ok (.iaload, 1) := dk_46 (dk_at dksL_law_20 0 rfl rfl)
theorem dL_law_686 : decode cL_law 686 = .ok (.aload_n 0, 1) := dk_42 (dk_at dksL_law_20 1 rfl rfl)
theorem dL_law_687 : decode cL_law 687 = .ok (.iload_n 3, 1) := dk_29 (dk_at dksL_law_20 2 rfl rfl)
theorem dL_law_688 : decode cL_law 688 = .ok (.iconst 2, 1) := dk_5 (dk_at dksL_law_20 3 rfl rfl)
theorem dL_law_689 : decode cL_law 689 = .ok (.iadd, 1) := dk_96 (dk_at dksL_law_20 4 rfl rfl)
theorem dL_law_690 : decode cL_law 690 = .ok (.iaload, 1) := dk_46 (dk_at dksL_law_20 5 rfl rfl)
theorem dL_law_691 : decode cL_law 691 = .ok (.invokevirtual 75, 3) := dk_182 0 75 (dk_at dksL_law_20 6 rfl rfl)
theorem dL_law_694 : decode cL_law 694 = .ok (.aload_n 2, 1) := dk_44 (dk_at dksL_law_20 9 rfl rfl)
theorem dL_law_695 : decode cL_law 695 = .ok (.aload_n 0, 1) := dk_42 (dk_at dksL_law_20 10 rfl rfl)
theorem dL_law_696 : decode cL_law 696 = .ok (.iload_n 3, 1) := dk_29 (dk_at dksL_law_20 11 rfl rfl)
theorem dL_law_697 : decode cL_law 697 = .ok (.iconst 1, 1) := dk_4 (dk_at dksL_law_20 12 rfl rfl)
theorem dL_law_698 : decode cL_law 698 = .ok (.iadd, 1) := dk_96 (dk_at dksL_law_20 13 rfl rfl)
theorem dL_law_699 : decode cL_law 699 = .ok (.iaload, 1) := dk_46 (dk_at dksL_law_20 14 rfl rfl)
theorem dL_law_700 : decode cL_law 700 = .ok (.aload_n 0, 1) := dk_42 (dk_at dksL_law_20 15 rfl rfl)
theorem dL_law_701 : decode cL_law 701 = .ok (.iload_n 3, 1) := dk_29 (dk_at dksL_law_20 16 rfl rfl)
theorem dL_law_702 : decode cL_law 702 = .ok (.iconst 2, 1) := dk_5 (dk_at dksL_law_20 17 rfl rfl)
theorem dL_law_703 : decode cL_law 703 = .ok (.iadd, 1) := dk_96 (dk_at dksL_law_20 18 rfl rfl)
theorem dL_law_704 : decode cL_law 704 = .ok (.iaload, 1) := dk_46 (dk_at dksL_law_20 19 rfl rfl)
theorem dL_law_705 : decode cL_law 705 = .ok (.invokevirtual 78, 3) := dk_182 0 78 (dk_at dksL_law_20 20 rfl rfl)
theorem dL_law_708 : decode cL_law 708 = .ok (.lcmp, 1) := dk_148 (dk_at dksL_law_20 23 rfl rfl)
theorem dL_law_709 : decode cL_law 709 = .ok (.ifCond .eq 1287, 3) := dk_153 5 7 (dk_at dksL_law_21 0 rfl rfl)
theorem dL_law_712 : decode cL_law 712 = .ok (.iconst 0, 1) := dk_3 (dk_at dksL_law_21 3 rfl rfl)
theorem dL_law_713 : decode cL_law 713 = .ok (.ireturn, 1) := dk_172 (dk_at dksL_law_21 4 rfl rfl)
theorem dL_law_714 : decode cL_law 714 = .ok (.aload_n 1, 1) := dk_43 (dk_at dksL_law_21 5 rfl rfl)
theorem dL_law_715 : decode cL_law 715 = .ok (.aload_n 0, 1) := dk_42 (dk_at dksL_law_21 6 rfl rfl)
theorem dL_law_716 : decode cL_law 716 = .ok (.iload_n 3, 1) := dk_29 (dk_at dksL_law_21 7 rfl rfl)
theorem dL_law_717 : decode cL_law 717 = .ok (.iconst 1, 1) := dk_4 (dk_at dksL_law_21 8 rfl rfl)
theorem dL_law_718 : decode cL_law 718 = .ok (.iadd, 1) := dk_96 (dk_at dksL_law_21 9 rfl rfl)
theorem dL_law_719 : decode cL_law 719 = .ok (.iaload, 1) := dk_46 (dk_at dksL_law_21 10 rfl rfl)
theorem dL_law_720 : decode cL_law 720 = .ok (.invokevirtual 79, 3) := dk_182 0 79 (dk_at dksL_law_21 11 rfl rfl)
theorem dL_law_723 : decode cL_law 723 = .ok (.aload_n 2, 1) := dk_44 (dk_at dksL_law_21 14 rfl rfl)
theorem dL_law_724 : decode cL_law 724 = .ok (.aload_n 0, 1) := dk_42 (dk_at dksL_law_21 15 rfl rfl)
theorem dL_law_725 : decode cL_law 725 = .ok (.iload_n 3, 1) := dk_29 (dk_at dksL_law_21 16 rfl rfl)
theorem dL_law_726 : decode cL_law 726 = .ok (.iconst 1, 1) := dk_4 (dk_at dksL_law_21 17 rfl rfl)
theorem dL_law_727 : decode cL_law 727 = .ok (.iadd, 1) := dk_96 (dk_at dksL_law_21 18 rfl rfl)
theorem dL_law_728 : decode cL_law 728 = .ok (.iaload, 1) := dk_46 (dk_at dksL_law_21 19 rfl rfl)
theorem dL_law_729 : decode cL_law 729 = .ok (.invokevirtual 82, 3) := dk_182 0 82 (dk_at dksL_law_21 20 rfl rfl)
theorem dL_law_732 : decode cL_law 732 = .ok (.lcmp, 1) := dk_148 (dk_at dksL_law_21 23 rfl rfl)
theorem dL_law_733 : decode cL_law 733 = .ok (.ifCond .eq 1263, 3) := dk_153 4 239 (dk_at dksL_law_22 0 rfl rfl)
theorem dL_law_736 : decode cL_law 736 = .ok (.iconst 0, 1) := dk_3 (dk_at dksL_law_22 3 rfl rfl)
theorem dL_law_737 : decode cL_law 737 = .ok (.ireturn, 1) := dk_172 (dk_at dksL_law_22 4 rfl rfl)
theorem dL_law_738 : decode cL_law 738 = .ok (.aload_n 1, 1) := dk_43 (dk_at dksL_law_22 5 rfl rfl)
theorem dL_law_739 : decode cL_law 739 = .ok (.aload_n 0, 1) := dk_42 (dk_at dksL_law_22 6 rfl rfl)
theorem dL_law_740 : decode cL_law 740 = .ok (.iload_n 3, 1) := dk_29 (dk_at dksL_law_22 7 rfl rfl)
theorem dL_law_741 : decode cL_law 741 = .ok (.iconst 1, 1) := dk_4 (dk_at dksL_law_22 8 rfl rfl)
theorem dL_law_742 : decode cL_law 742 = .ok (.iadd, 1) := dk_96 (dk_at dksL_law_22 9 rfl rfl)
theorem dL_law_743 : decode cL_law 743 = .ok (.iaload, 1) := dk_46 (dk_at dksL_law_22 10 rfl rfl)
theorem dL_law_744 : decode cL_law 744 = .ok (.aload_n 0, 1) := dk_42 (dk_at dksL_law_22 11 rfl rfl)
theorem dL_law_745 : decode cL_law 745 = .ok (.iload_n 3, 1) := dk_29 (dk_at dksL_law_22 12 rfl rfl)
theorem dL_law_746 : decode cL_law 746 = .ok (.iconst 2, 1) := dk_5 (dk_at dksL_law_22 13 rfl rfl)
theorem dL_law_747 : decode cL_law 747 = .ok (.iadd, 1) := dk_96 (dk_at dksL_law_22 14 rfl rfl)
theorem dL_law_748 : decode cL_law 748 = .ok (.iaload, 1) := dk_46 (dk_at dksL_law_22 15 rfl rfl)
theorem dL_law_749 : decode cL_law 749 = .ok (.invokevirtual 83, 3) := dk_182 0 83 (dk_at dksL_law_22 16 rfl rfl)
theorem dL_law_752 : decode cL_law 752 = .ok (.aload_n 2, 1) := dk_44 (dk_at dksL_law_22 19 rfl rfl)
theorem dL_law_753 : decode cL_law 753 = .ok (.aload_n 0, 1) := dk_42 (dk_at dksL_law_22 20 rfl rfl)
theorem dL_law_754 : decode cL_law 754 = .ok (.iload_n 3, 1) := dk_29 (dk_at dksL_law_22 21 rfl rfl)
theorem dL_law_755 : decode cL_law 755 = .ok (.iconst 1, 1) := dk_4 (dk_at dksL_law_22 22 rfl rfl)
theorem dL_law_756 : decode cL_law 756 = .ok (.iadd, 1) := dk_96 (dk_at dksL_law_22 23 rfl rfl)
theorem dL_law_757 : decode cL_law 757 = .ok (.iaload, 1) := dk_46 (dk_at dksL_law_23 0 rfl rfl)
theorem dL_law_758 : decode cL_law 758 = .ok (.aload_n 0, 1) := dk_42 (dk_at dksL_law_23 1 rfl rfl)
theorem dL_law_759 : decode cL_law 759 = .ok (.iload_n 3, 1) := dk_29 (dk_at dksL_law_23 2 rfl rfl)
theorem dL_law_760 : decode cL_law 760 = .ok (.iconst 2, 1) := dk_5 (dk_at dksL_law_23 3 rfl rfl)
theorem dL_law_761 : decode cL_law 761 = .ok (.iadd, 1) := dk_96 (dk_at dksL_law_23 4 rfl rfl)
theorem dL_law_762 : decode cL_law 762 = .ok (.iaload, 1) := dk_46 (dk_at dksL_law_23 5 rfl rfl)
theorem dL_law_763 : decode cL_law 763 = .ok (.invokevirtual 86, 3) := dk_182 0 86 (dk_at dksL_law_23 6 rfl rfl)
theorem dL_law_766 : decode cL_law 766 = .ok (.if_icmp .eq 1230, 3) := dk_159 4 206 (dk_at dksL_law_23 9 rfl rfl)
theorem dL_law_769 : decode cL_law 769 = .ok (.iconst 0, 1) := dk_3 (dk_at dksL_law_23 12 rfl rfl)
theorem dL_law_770 : decode cL_law 770 = .ok (.ireturn, 1) := dk_172 (dk_at dksL_law_23 13 rfl rfl)
theorem dL_law_771 : decode cL_law 771 = .ok (.aload_n 1, 1) := dk_43 (dk_at dksL_law_23 14 rfl rfl)
theorem dL_law_772 : decode cL_law 772 = .ok (.aload_n 0, 1) := dk_42 (dk_at dksL_law_23 15 rfl rfl)
theorem dL_law_773 : decode cL_law 773 = .ok (.iload_n 3, 1) := dk_29 (dk_at dksL_law_23 16 rfl rfl)
theorem dL_law_774 : decode cL_law 774 = .ok (.iconst 1, 1) := dk_4 (dk_at dksL_law_23 17 rfl rfl)
theorem dL_law_775 : decode cL_law 775 = .ok (.iadd, 1) := dk_96 (dk_at dksL_law_23 18 rfl rfl)
theorem dL_law_776 : decode cL_law 776 = .ok (.iaload, 1) := dk_46 (dk_at dksL_law_23 19 rfl rfl)
theorem dL_law_777 : decode cL_law 777 = .ok (.aload_n 0, 1) := dk_42 (dk_at dksL_law_23 20 rfl rfl)
theorem dL_law_778 : decode cL_law 778 = .ok (.iload_n 3, 1) := dk_29 (dk_at dksL_law_23 21 rfl rfl)
theorem dL_law_779 : decode cL_law 779 = .ok (.iconst 2, 1) := dk_5 (dk_at dksL_law_23 22 rfl rfl)
theorem dL_law_780 : decode cL_law 780 = .ok (.iadd, 1) := dk_96 (dk_at dksL_law_23 23 rfl rfl)
theorem dL_law_781 : decode cL_law 781 = .ok (.iaload, 1) := dk_46 (dk_at dksL_law_24 0 rfl rfl)
theorem dL_law_782 : decode cL_law 782 = .ok (.invokevirtual 87, 3) := dk_182 0 87 (dk_at dksL_law_24 1 rfl rfl)
theorem dL_law_785 : decode cL_law 785 = .ok (.aload_n 2, 1) := dk_44 (dk_at dksL_law_24 4 rfl rfl)
theorem dL_law_786 : decode cL_law 786 = .ok (.aload_n 0, 1) := dk_42 (dk_at dksL_law_24 5 rfl rfl)
theorem dL_law_787 : decode cL_law 787 = .ok (.iload_n 3, 1) := dk_29 (dk_at dksL_law_24 6 rfl rfl)
theorem dL_law_788 : decode cL_law 788 = .ok (.iconst 1, 1) := dk_4 (dk_at dksL_law_24 7 rfl rfl)
theorem dL_law_789 : decode cL_law 789 = .ok (.iadd, 1) := dk_96 (dk_at dksL_law_24 8 rfl rfl)
theorem dL_law_790 : decode cL_law 790 = .ok (.iaload, 1) := dk_46 (dk_at dksL_law_24 9 rfl rfl)
theorem dL_law_791 : decode cL_law 791 = .ok (.aload_n 0, 1) := dk_42 (dk_at dksL_law_24 10 rfl rfl)
theorem dL_law_792 : decode cL_law 792 = .ok (.iload_n 3, 1) := dk_29 (dk_at dksL_law_24 11 rfl rfl)
theorem dL_law_793 : decode cL_law 793 = .ok (.iconst 2, 1) := dk_5 (dk_at dksL_law_24 12 rfl rfl)
theorem dL_law_794 : decode cL_law 794 = .ok (.iadd, 1) := dk_96 (dk_at dksL_law_24 13 rfl rfl)
theorem dL_law_795 : decode cL_law 795 = .ok (.iaload, 1) := dk_46 (dk_at dksL_law_24 14 rfl rfl)
theorem dL_law_796 : decode cL_law 796 = .ok (.invokevirtual 90, 3) := dk_182 0 90 (dk_at dksL_law_24 15 rfl rfl)
theorem dL_law_799 : decode cL_law 799 = .ok (.lcmp, 1) := dk_148 (dk_at dksL_law_24 18 rfl rfl)
theorem dL_law_800 : decode cL_law 800 = .ok (.ifCond .eq 1196, 3) := dk_153 4 172 (dk_at dksL_law_24 19 rfl rfl)
theorem dL_law_803 : decode cL_law 803 = .ok (.iconst 0, 1) := dk_3 (dk_at dksL_law_24 22 rfl rfl)
theorem dL_law_804 : decode cL_law 804 = .ok (.ireturn, 1) := dk_172 (dk_at dksL_law_24 23 rfl rfl)
theorem dL_law_805 : decode cL_law 805 = .ok (.aload_n 1, 1) := dk_43 (dk_at dksL_law_25 0 rfl rfl)
theorem dL_law_806 : decode cL_law 806 = .ok (.aload_n 0, 1) := dk_42 (dk_at dksL_law_25 1 rfl rfl)
theorem dL_law_807 : decode cL_law 807 = .ok (.iload_n 3, 1) := dk_29 (dk_at dksL_law_25 2 rfl rfl)
theorem dL_law_808 : decode cL_law 808 = .ok (.iconst 1, 1) := dk_4 (dk_at dksL_law_25 3 rfl rfl)
theorem dL_law_809 : decode cL_law 809 = .ok (.iadd, 1) := dk_96 (dk_at dksL_law_25 4 rfl rfl)
theorem dL_law_810 : decode cL_law 810 = .ok (.iaload, 1) := dk_46 (dk_at dksL_law_25 5 rfl rfl)
theorem dL_law_811 : decode cL_law 811 = .ok (.invokevirtual 91, 3) := dk_182 0 91 (dk_at dksL_law_25 6 rfl rfl)
theorem dL_law_814 : decode cL_law 814 = .ok (.aload_n 2, 1) := dk_44 (dk_at dksL_law_25 9 rfl rfl)
theorem dL_law_815 : decode cL_law 815 = .ok (.aload_n 0, 1) := dk_42 (dk_at dksL_law_25 10 rfl rfl)
theorem dL_law_816 : decode cL_law 816 = .ok (.iload_n 3, 1) := dk_29 (dk_at dksL_law_25 11 rfl rfl)
theorem dL_law_817 : decode cL_law 817 = .ok (.iconst 1, 1) := dk_4 (dk_at dksL_law_25 12 rfl rfl)
theorem dL_law_818 : decode cL_law 818 = .ok (.iadd, 1) := dk_96 (dk_at dksL_law_25 13 rfl rfl)
theorem dL_law_819 : decode cL_law 819 = .ok (.iaload, 1) := dk_46 (dk_at dksL_law_25 14 rfl rfl)
theorem dL_law_820 : decode cL_law 820 = .ok (.invokevirtual 94, 3) := dk_182 0 94 (dk_at dksL_law_25 15 rfl rfl)
theorem dL_law_823 : decode cL_law 823 = .ok (.if_icmp .eq 1173, 3) := dk_159 4 149 (dk_at dksL_law_25 18 rfl rfl)
theorem dL_law_826 : decode cL_law 826 = .ok (.iconst 0, 1) := dk_3 (dk_at dksL_law_25 21 rfl rfl)
theorem dL_law_827 : decode cL_law 827 = .ok (.ireturn, 1) := dk_172 (dk_at dksL_law_25 22 rfl rfl)
theorem dL_law_828 : decode cL_law 828 = .ok (.aload_n 1, 1) := dk_43 (dk_at dksL_law_25 23 rfl rfl)
theorem dL_law_829 : decode cL_law 829 = .ok (.invokevirtual 95, 3) := dk_182 0 95 (dk_at dksL_law_26 0 rfl rfl)
theorem dL_law_832 : decode cL_law 832 = .ok (.aload_n 2, 1) := dk_44 (dk_at dksL_law_26 3 rfl rfl)
theorem dL_law_833 : decode cL_law 833 = .ok (.invokevirtual 98, 3) := dk_182 0 98 (dk_at dksL_law_26 4 rfl rfl)
theorem dL_law_836 : decode cL_law 836 = .ok (.if_icmp .eq 1160, 3) := dk_159 4 136 (dk_at dksL_law_26 7 rfl rfl)
theorem dL_law_839 : decode cL_law 839 = .ok (.iconst 0, 1) := dk_3 (dk_at dksL_law_26 10 rfl rfl)
theorem dL_law_840 : decode cL_law 840 = .ok (.ireturn, 1) := dk_172 (dk_at dksL_law_26 11 rfl rfl)
theorem dL_law_841 : decode cL_law 841 = .ok (.aload_n 1, 1) := dk_43 (dk_at dksL_law_26 12 rfl rfl)
theorem dL_law_842 : decode cL_law 842 = .ok (.aload_n 0, 1) := dk_42 (dk_at dksL_law_26 13 rfl rfl)
theorem dL_law_843 : decode cL_law 843 = .ok (.iload_n 3, 1) := dk_29 (dk_at dksL_law_26 14 rfl rfl)
theorem dL_law_844 : decode cL_law 844 = .ok (.iconst 1, 1) := dk_4 (dk_at dksL_law_26 15 rfl rfl)
theorem dL_law_845 : decode cL_law 845 = .ok (.iadd, 1) := dk_96 (dk_at dksL_law_26 16 rfl rfl)
theorem dL_law_846 : decode cL_law 846 = .ok (.iaload, 1) := dk_46 (dk_at dksL_law_26 17 rfl rfl)
theorem dL_law_847 : decode cL_law 847 = .ok (.invokevirtual 99, 3) := dk_182 0 99 (dk_at dksL_law_26 18 rfl rfl)
theorem dL_law_850 : decode cL_law 850 = .ok (.aload_n 2, 1) := dk_44 (dk_at dksL_law_26 21 rfl rfl)
theorem dL_law_851 : decode cL_law 851 = .ok (.aload_n 0, 1) := dk_42 (dk_at dksL_law_26 22 rfl rfl)
theorem dL_law_852 : decode cL_law 852 = .ok (.iload_n 3, 1) := dk_29 (dk_at dksL_law_26 23 rfl rfl)
theorem dL_law_853 : decode cL_law 853 = .ok (.iconst 1, 1) := dk_4 (dk_at dksL_law_27 0 rfl rfl)
theorem dL_law_854 : decode cL_law 854 = .ok (.iadd, 1) := dk_96 (dk_at dksL_law_27 1 rfl rfl)
theorem dL_law_855 : decode cL_law 855 = .ok (.iaload, 1) := dk_46 (dk_at dksL_law_27 2 rfl rfl)
theorem dL_law_856 : decode cL_law 856 = .ok (.invokevirtual 102, 3) := dk_182 0 102 (dk_at dksL_law_27 3 rfl rfl)
theorem dL_law_859 : decode cL_law 859 = .ok (.if_icmp .eq 1137, 3) := dk_159 4 113 (dk_at dksL_law_27 6 rfl rfl)
theorem dL_law_862 : decode cL_law 862 = .ok (.iconst 0, 1) := dk_3 (dk_at dksL_law_27 9 rfl rfl)
theorem dL_law_863 : decode cL_law 863 = .ok (.ireturn, 1) := dk_172 (dk_at dksL_law_27 10 rfl rfl)
theorem dL_law_864 : decode cL_law 864 = .ok (.aload_n 1, 1) := dk_43 (dk_at dksL_law_27 11 rfl rfl)
theorem dL_law_865 : decode cL_law 865 = .ok (.invokevirtual 103, 3) := dk_182 0 103 (dk_at dksL_law_27 12 rfl rfl)
theorem dL_law_868 : decode cL_law 868 = .ok (.aload_n 2, 1) := dk_44 (dk_at dksL_law_27 15 rfl rfl)
theorem dL_law_869 : decode cL_law 869 = .ok (.invokevirtual 106, 3) := dk_182 0 106 (dk_at dksL_law_27 16 rfl rfl)
theorem dL_law_872 : decode cL_law 872 = .ok (.if_icmp .eq 1124, 3) := dk_159 4 100 (dk_at dksL_law_27 19 rfl rfl)
theorem dL_law_875 : decode cL_law 875 = .ok (.iconst 0, 1) := dk_3 (dk_at dksL_law_27 22 rfl rfl)
theorem dL_law_876 : decode cL_law 876 = .ok (.ireturn, 1) := dk_172 (dk_at dksL_law_27 23 rfl rfl)
theorem dL_law_877 : decode cL_law 877 = .ok (.aload_n 1, 1) := dk_43 (dk_at dksL_law_28 0 rfl rfl)
theorem dL_law_878 : decode cL_law 878 = .ok (.invokevirtual 107, 3) := dk_182 0 107 (dk_at dksL_law_28 1 rfl rfl)
theorem dL_law_881 : decode cL_law 881 = .ok (.aload_n 2, 1) := dk_44 (dk_at dksL_law_28 4 rfl rfl)
theorem dL_law_882 : decode cL_law 882 = .ok (.invokevirtual 111, 3) := dk_182 0 111 (dk_at dksL_law_28 5 rfl rfl)
theorem dL_law_885 : decode cL_law 885 = .ok (.lcmp, 1) := dk_148 (dk_at dksL_law_28 8 rfl rfl)
theorem dL_law_886 : decode cL_law 886 = .ok (.ifCond .eq 1110, 3) := dk_153 4 86 (dk_at dksL_law_28 9 rfl rfl)
theorem dL_law_889 : decode cL_law 889 = .ok (.iconst 0, 1) := dk_3 (dk_at dksL_law_28 12 rfl rfl)
theorem dL_law_890 : decode cL_law 890 = .ok (.ireturn, 1) := dk_172 (dk_at dksL_law_28 13 rfl rfl)
theorem dL_law_891 : decode cL_law 891 = .ok (.aload_n 1, 1) := dk_43 (dk_at dksL_law_28 14 rfl rfl)
theorem dL_law_892 : decode cL_law 892 = .ok (.aload_n 0, 1) := dk_42 (dk_at dksL_law_28 15 rfl rfl)
theorem dL_law_893 : decode cL_law 893 = .ok (.iload_n 3, 1) := dk_29 (dk_at dksL_law_28 16 rfl rfl)
theorem dL_law_894 : decode cL_law 894 = .ok (.iconst 1, 1) := dk_4 (dk_at dksL_law_28 17 rfl rfl)
theorem dL_law_895 : decode cL_law 895 = .ok (.iadd, 1) := dk_96 (dk_at dksL_law_28 18 rfl rfl)
theorem dL_law_896 : decode cL_law 896 = .ok (.iaload, 1) := dk_46 (dk_at dksL_law_28 19 rfl rfl)
theorem dL_law_897 : decode cL_law 897 = .ok (.invokevirtual 112, 3) := dk_182 0 112 (dk_at dksL_law_28 20 rfl rfl)
theorem dL_law_900 : decode cL_law 900 = .ok (.aload_n 2, 1) := dk_44 (dk_at dksL_law_28 23 rfl rfl)
theorem dL_law_901 : decode cL_law 901 = .ok (.aload_n 0, 1) := dk_42 (dk_at dksL_law_29 0 rfl rfl)
theorem dL_law_902 : decode cL_law 902 = .ok (.iload_n 3, 1) := dk_29 (dk_at dksL_law_29 1 rfl rfl)
theorem dL_law_903 : decode cL_law 903 = .ok (.iconst 1, 1) := dk_4 (dk_at dksL_law_29 2 rfl rfl)
theorem dL_law_904 : decode cL_law 904 = .ok (.iadd, 1) := dk_96 (dk_at dksL_law_29 3 rfl rfl)
theorem dL_law_905 : decode cL_law 905 = .ok (.iaload, 1) := dk_46 (dk_at dksL_law_29 4 rfl rfl)
theorem dL_law_906 : decode cL_law 906 = .ok (.invokevirtual 115, 3) := dk_182 0 115 (dk_at dksL_law_29 5 rfl rfl)
theorem dL_law_909 : decode cL_law 909 = .ok (.if_icmp .eq 1087, 3) := dk_159 4 63 (dk_at dksL_law_29 8 rfl rfl)
theorem dL_law_912 : decode cL_law 912 = .ok (.iconst 0, 1) := dk_3 (dk_at dksL_law_29 11 rfl rfl)
theorem dL_law_913 : decode cL_law 913 = .ok (.ireturn, 1) := dk_172 (dk_at dksL_law_29 12 rfl rfl)
theorem dL_law_914 : decode cL_law 914 = .ok (.aload_n 1, 1) := dk_43 (dk_at dksL_law_29 13 rfl rfl)
theorem dL_law_915 : decode cL_law 915 = .ok (.invokevirtual 116, 3) := dk_182 0 116 (dk_at dksL_law_29 14 rfl rfl)
theorem dL_law_918 : decode cL_law 918 = .ok (.aload_n 2, 1) := dk_44 (dk_at dksL_law_29 17 rfl rfl)
theorem dL_law_919 : decode cL_law 919 = .ok (.invokevirtual 119, 3) := dk_182 0 119 (dk_at dksL_law_29 18 rfl rfl)
theorem dL_law_922 : decode cL_law 922 = .ok (.lcmp, 1) := dk_148 (dk_at dksL_law_29 21 rfl rfl)
theorem dL_law_923 : decode cL_law 923 = .ok (.ifCond .eq 1073, 3) := dk_153 4 49 (dk_at dksL_law_30 0 rfl rfl)
theorem dL_law_926 : decode cL_law 926 = .ok (.iconst 0, 1) := dk_3 (dk_at dksL_law_30 3 rfl rfl)
theorem dL_law_927 : decode cL_law 927 = .ok (.ireturn, 1) := dk_172 (dk_at dksL_law_30 4 rfl rfl)
theorem dL_law_928 : decode cL_law 928 = .ok (.aload_n 1, 1) := dk_43 (dk_at dksL_law_30 5 rfl rfl)
theorem dL_law_929 : decode cL_law 929 = .ok (.aload_n 0, 1) := dk_42 (dk_at dksL_law_30 6 rfl rfl)
theorem dL_law_930 : decode cL_law 930 = .ok (.iload_n 3, 1) := dk_29 (dk_at dksL_law_30 7 rfl rfl)
theorem dL_law_931 : decode cL_law 931 = .ok (.iconst 1, 1) := dk_4 (dk_at dksL_law_30 8 rfl rfl)
theorem dL_law_932 : decode cL_law 932 = .ok (.iadd, 1) := dk_96 (dk_at dksL_law_30 9 rfl rfl)
theorem dL_law_933 : decode cL_law 933 = .ok (.iaload, 1) := dk_46 (dk_at dksL_law_30 10 rfl rfl)
theorem dL_law_934 : decode cL_law 934 = .ok (.aload_n 0, 1) := dk_42 (dk_at dksL_law_30 11 rfl rfl)
theorem dL_law_935 : decode cL_law 935 = .ok (.iload_n 3, 1) := dk_29 (dk_at dksL_law_30 12 rfl rfl)
theorem dL_law_936 : decode cL_law 936 = .ok (.iconst 2, 1) := dk_5 (dk_at dksL_law_30 13 rfl rfl)
theorem dL_law_937 : decode cL_law 937 = .ok (.iadd, 1) := dk_96 (dk_at dksL_law_30 14 rfl rfl)
theorem dL_law_938 : decode cL_law 938 = .ok (.iaload, 1) := dk_46 (dk_at dksL_law_30 15 rfl rfl)
theorem dL_law_939 : decode cL_law 939 = .ok (.invokevirtual 120, 3) := dk_182 0 120 (dk_at dksL_law_30 16 rfl rfl)
theorem dL_law_942 : decode cL_law 942 = .ok (.aload_n 2, 1) := dk_44 (dk_at dksL_law_30 19 rfl rfl)
theorem dL_law_943 : decode cL_law 943 = .ok (.aload_n 0, 1) := dk_42 (dk_at dksL_law_30 20 rfl rfl)
theorem dL_law_944 : decode cL_law 944 = .ok (.iload_n 3, 1) := dk_29 (dk_at dksL_law_30 21 rfl rfl)
theorem dL_law_945 : decode cL_law 945 = .ok (.iconst 1, 1) := dk_4 (dk_at dksL_law_30 22 rfl rfl)
theorem dL_law_946 : decode cL_law 946 = .ok (.iadd, 1) := dk_96 (dk_at dksL_law_30 23 rfl rfl)
theorem dL_law_947 : decode cL_law 947 = .ok (.iaload, 1) := dk_46 (dk_at dksL_law_31 0 rfl rfl)
theorem dL_law_948 : decode cL_law 948 = .ok (.aload_n 0, 1) := dk_42 (dk_at dksL_law_31 1 rfl rfl)
theorem dL_law_949 : decode cL_law 949 = .ok (.iload_n 3, 1) := dk_29 (dk_at dksL_law_31 2 rfl rfl)
theorem dL_law_950 : decode cL_law 950 = .ok (.iconst 2, 1) := dk_5 (dk_at dksL_law_31 3 rfl rfl)
theorem dL_law_951 : decode cL_law 951 = .ok (.iadd, 1) := dk_96 (dk_at dksL_law_31 4 rfl rfl)
theorem dL_law_952 : decode cL_law 952 = .ok (.iaload, 1) := dk_46 (dk_at dksL_law_31 5 rfl rfl)
theorem dL_law_953 : decode cL_law 953 = .ok (.invokevirtual 123, 3) := dk_182 0 123 (dk_at dksL_law_31 6 rfl rfl)
theorem dL_law_956 : decode cL_law 956 = .ok (.if_icmp .eq 1040, 3) := dk_159 4 16 (dk_at dksL_law_31 9 rfl rfl)
theorem dL_law_959 : decode cL_law 959 = .ok (.iconst 0, 1) := dk_3 (dk_at dksL_law_31 12 rfl rfl)
theorem dL_law_960 : decode cL_law 960 = .ok (.ireturn, 1) := dk_172 (dk_at dksL_law_31 13 rfl rfl)
theorem dL_law_961 : decode cL_law 961 = .ok (.aload_n 1, 1) := dk_43 (dk_at dksL_law_31 14 rfl rfl)
theorem dL_law_962 : decode cL_law 962 = .ok (.invokevirtual 124, 3) := dk_182 0 124 (dk_at dksL_law_31 15 rfl rfl)
theorem dL_law_965 : decode cL_law 965 = .ok (.aload_n 2, 1) := dk_44 (dk_at dksL_law_31 18 rfl rfl)
theorem dL_law_966 : decode cL_law 966 = .ok (.invokevirtual 127, 3) := dk_182 0 127 (dk_at dksL_law_31 19 rfl rfl)
theorem dL_law_969 : decode cL_law 969 = .ok (.lcmp, 1) := dk_148 (dk_at dksL_law_31 22 rfl rfl)
theorem dL_law_970 : decode cL_law 970 = .ok (.ifCond .eq 1026, 3) := dk_153 4 2 (dk_at dksL_law_32 0 rfl rfl)
theorem dL_law_973 : decode cL_law 973 = .ok (.iconst 0, 1) := dk_3 (dk_at dksL_law_32 3 rfl rfl)
theorem dL_law_974 : decode cL_law 974 = .ok (.ireturn, 1) := dk_172 (dk_at dksL_law_32 4 rfl rfl)
theorem dL_law_975 : decode cL_law 975 = .ok (.aload_n 1, 1) := dk_43 (dk_at dksL_law_32 5 rfl rfl)
theorem dL_law_976 : decode cL_law 976 = .ok (.aload_n 0, 1) := dk_42 (dk_at dksL_law_32 6 rfl rfl)
theorem dL_law_977 : decode cL_law 977 = .ok (.iload_n 3, 1) := dk_29 (dk_at dksL_law_32 7 rfl rfl)
theorem dL_law_978 : decode cL_law 978 = .ok (.iconst 1, 1) := dk_4 (dk_at dksL_law_32 8 rfl rfl)
theorem dL_law_979 : decode cL_law 979 = .ok (.iadd, 1) := dk_96 (dk_at dksL_law_32 9 rfl rfl)
theorem dL_law_980 : decode cL_law 980 = .ok (.iaload, 1) := dk_46 (dk_at dksL_law_32 10 rfl rfl)
theorem dL_law_981 : decode cL_law 981 = .ok (.aload_n 0, 1) := dk_42 (dk_at dksL_law_32 11 rfl rfl)
theorem dL_law_982 : decode cL_law 982 = .ok (.iload_n 3, 1) := dk_29 (dk_at dksL_law_32 12 rfl rfl)
theorem dL_law_983 : decode cL_law 983 = .ok (.iconst 2, 1) := dk_5 (dk_at dksL_law_32 13 rfl rfl)
theorem dL_law_984 : decode cL_law 984 = .ok (.iadd, 1) := dk_96 (dk_at dksL_law_32 14 rfl rfl)
theorem dL_law_985 : decode cL_law 985 = .ok (.iaload, 1) := dk_46 (dk_at dksL_law_32 15 rfl rfl)
theorem dL_law_986 : decode cL_law 986 = .ok (.aload_n 0, 1) := dk_42 (dk_at dksL_law_32 16 rfl rfl)
theorem dL_law_987 : decode cL_law 987 = .ok (.iload_n 3, 1) := dk_29 (dk_at dksL_law_32 17 rfl rfl)
theorem dL_law_988 : decode cL_law 988 = .ok (.iconst 3, 1) := dk_6 (dk_at dksL_law_32 18 rfl rfl)
theorem dL_law_989 : decode cL_law 989 = .ok (.iadd, 1) := dk_96 (dk_at dksL_law_32 19 rfl rfl)
theorem dL_law_990 : decode cL_law 990 = .ok (.iaload, 1) := dk_46 (dk_at dksL_law_32 20 rfl rfl)
theorem dL_law_991 : decode cL_law 991 = .ok (.invokevirtual 128, 3) := dk_182 0 128 (dk_at dksL_law_32 21 rfl rfl)
theorem dL_law_994 : decode cL_law 994 = .ok (.aload_n 2, 1) := dk_44 (dk_at dksL_law_33 0 rfl rfl)
theorem dL_law_995 : decode cL_law 995 = .ok (.aload_n 0, 1) := dk_42 (dk_at dksL_law_33 1 rfl rfl)
theorem dL_law_996 : decode cL_law 996 = .ok (.iload_n 3, 1) := dk_29 (dk_at dksL_law_33 2 rfl rfl)
theorem dL_law_997 : decode cL_law 997 = .ok (.iconst 1, 1) := dk_4 (dk_at dksL_law_33 3 rfl rfl)
theorem dL_law_998 : decode cL_law 998 = .ok (.iadd, 1) := dk_96 (dk_at dksL_law_33 4 rfl rfl)
theorem dL_law_999 : decode cL_law 999 = .ok (.iaload, 1) := dk_46 (dk_at dksL_law_33 5 rfl rfl)
theorem dL_law_1000 : decode cL_law 1000 = .ok (.aload_n 0, 1) := dk_42 (dk_at dksL_law_33 6 rfl rfl)
theorem dL_law_1001 : decode cL_law 1001 = .ok (.iload_n 3, 1) := dk_29 (dk_at dksL_law_33 7 rfl rfl)
theorem dL_law_1002 : decode cL_law 1002 = .ok (.iconst 2, 1) := dk_5 (dk_at dksL_law_33 8 rfl rfl)
theorem dL_law_1003 : decode cL_law 1003 = .ok (.iadd, 1) := dk_96 (dk_at dksL_law_33 9 rfl rfl)
theorem dL_law_1004 : decode cL_law 1004 = .ok (.iaload, 1) := dk_46 (dk_at dksL_law_33 10 rfl rfl)
theorem dL_law_1005 : decode cL_law 1005 = .ok (.aload_n 0, 1) := dk_42 (dk_at dksL_law_33 11 rfl rfl)
theorem dL_law_1006 : decode cL_law 1006 = .ok (.iload_n 3, 1) := dk_29 (dk_at dksL_law_33 12 rfl rfl)
theorem dL_law_1007 : decode cL_law 1007 = .ok (.iconst 3, 1) := dk_6 (dk_at dksL_law_33 13 rfl rfl)
theorem dL_law_1008 : decode cL_law 1008 = .ok (.iadd, 1) := dk_96 (dk_at dksL_law_33 14 rfl rfl)
theorem dL_law_1009 : decode cL_law 1009 = .ok (.iaload, 1) := dk_46 (dk_at dksL_law_33 15 rfl rfl)
theorem dL_law_1010 : decode cL_law 1010 = .ok (.invokevirtual 132, 3) := dk_182 0 132 (dk_at dksL_law_33 16 rfl rfl)
theorem dL_law_1013 : decode cL_law 1013 = .ok (.lcmp, 1) := dk_148 (dk_at dksL_law_33 19 rfl rfl)
theorem dL_law_1014 : decode cL_law 1014 = .ok (.ifCond .eq 982, 3) := dk_153 3 214 (dk_at dksL_law_33 20 rfl rfl)
theorem dL_law_1017 : decode cL_law 1017 = .ok (.iconst 0, 1) := dk_3 (dk_at dksL_law_33 23 rfl rfl)
theorem dL_law_1018 : decode cL_law 1018 = .ok (.ireturn, 1) := dk_172 (dk_at dksL_law_34 0 rfl rfl)
theorem dL_law_1019 : decode cL_law 1019 = .ok (.aload_n 1, 1) := dk_43 (dk_at dksL_law_34 1 rfl rfl)
theorem dL_law_1020 : decode cL_law 1020 = .ok (.aload_n 0, 1) := dk_42 (dk_at dksL_law_34 2 rfl rfl)
theorem dL_law_1021 : decode cL_law 1021 = .ok (.iload_n 3, 1) := dk_29 (dk_at dksL_law_34 3 rfl rfl)
theorem dL_law_1022 : decode cL_law 1022 = .ok (.iconst 1, 1) := dk_4 (dk_at dksL_law_34 4 rfl rfl)
theorem dL_law_1023 : decode cL_law 1023 = .ok (.iadd, 1) := dk_96 (dk_at dksL_law_34 5 rfl rfl)
theorem dL_law_1024 : decode cL_law 1024 = .ok (.iaload, 1) := dk_46 (dk_at dksL_law_34 6 rfl rfl)
theorem dL_law_1025 : decode cL_law 1025 = .ok (.aload_n 0, 1) := dk_42 (dk_at dksL_law_34 7 rfl rfl)
theorem dL_law_1026 : decode cL_law 1026 = .ok (.iload_n 3, 1) := dk_29 (dk_at dksL_law_34 8 rfl rfl)
theorem dL_law_1027 : decode cL_law 1027 = .ok (.iconst 2, 1) := dk_5 (dk_at dksL_law_34 9 rfl rfl)
theorem dL_law_1028 : decode cL_law 1028 = .ok (.iadd, 1) := dk_96 (dk_at dksL_law_34 10 rfl rfl)
theorem dL_law_1029 : decode cL_law 1029 = .ok (.iaload, 1) := dk_46 (dk_at dksL_law_34 11 rfl rfl)
theorem dL_law_1030 : decode cL_law 1030 = .ok (.invokevirtual 133, 3) := dk_182 0 133 (dk_at dksL_law_34 12 rfl rfl)
theorem dL_law_1033 : decode cL_law 1033 = .ok (.aload_n 2, 1) := dk_44 (dk_at dksL_law_34 15 rfl rfl)
theorem dL_law_1034 : decode cL_law 1034 = .ok (.aload_n 0, 1) := dk_42 (dk_at dksL_law_34 16 rfl rfl)
theorem dL_law_1035 : decode cL_law 1035 = .ok (.iload_n 3, 1) := dk_29 (dk_at dksL_law_34 17 rfl rfl)
theorem dL_law_1036 : decode cL_law 1036 = .ok (.iconst 1, 1) := dk_4 (dk_at dksL_law_34 18 rfl rfl)
theorem dL_law_1037 : decode cL_law 1037 = .ok (.iadd, 1) := dk_96 (dk_at dksL_law_34 19 rfl rfl)
theorem dL_law_1038 : decode cL_law 1038 = .ok (.iaload, 1) := dk_46 (dk_at dksL_law_34 20 rfl rfl)
theorem dL_law_1039 : decode cL_law 1039 = .ok (.aload_n 0, 1) := dk_42 (dk_at dksL_law_34 21 rfl rfl)
theorem dL_law_1040 : decode cL_law 1040 = .ok (.iload_n 3, 1) := dk_29 (dk_at dksL_law_34 22 rfl rfl)
theorem dL_law_1041 : decode cL_law 1041 = .ok (.iconst 2, 1) := dk_5 (dk_at dksL_law_34 23 rfl rfl)
theorem dL_law_1042 : decode cL_law 1042 = .ok (.iadd, 1) := dk_96 (dk_at dksL_law_35 0 rfl rfl)
theorem dL_law_1043 : decode cL_law 1043 = .ok (.iaload, 1) := dk_46 (dk_at dksL_law_35 1 rfl rfl)
theorem dL_law_1044 : decode cL_law 1044 = .ok (.invokevirtual 136, 3) := dk_182 0 136 (dk_at dksL_law_35 2 rfl rfl)
theorem dL_law_1047 : decode cL_law 1047 = .ok (.if_icmp .eq 949, 3) := dk_159 3 181 (dk_at dksL_law_35 5 rfl rfl)
theorem dL_law_1050 : decode cL_law 1050 = .ok (.iconst 0, 1) := dk_3 (dk_at dksL_law_35 8 rfl rfl)
theorem dL_law_1051 : decode cL_law 1051 = .ok (.ireturn, 1) := dk_172 (dk_at dksL_law_35 9 rfl rfl)
theorem dL_law_1052 : decode cL_law 1052 = .ok (.aload_n 1, 1) := dk_43 (dk_at dksL_law_35 10 rfl rfl)
theorem dL_law_1053 : decode cL_law 1053 = .ok (.aload_n 0, 1) := dk_42 (dk_at dksL_law_35 11 rfl rfl)
theorem dL_law_1054 : decode cL_law 1054 = .ok (.iload_n 3, 1) := dk_29 (dk_at dksL_law_35 12 rfl rfl)
theorem dL_law_1055 : decode cL_law 1055 = .ok (.iconst 1, 1) := dk_4 (dk_at dksL_law_35 13 rfl rfl)
theorem dL_law_1056 : decode cL_law 1056 = .ok (.iadd, 1) := dk_96 (dk_at dksL_law_35 14 rfl rfl)
theorem dL_law_1057 : decode cL_law 1057 = .ok (.iaload, 1) := dk_46 (dk_at dksL_law_35 15 rfl rfl)
theorem dL_law_1058 : decode cL_law 1058 = .ok (.aload_n 0, 1) := dk_42 (dk_at dksL_law_35 16 rfl rfl)
theorem dL_law_1059 : decode cL_law 1059 = .ok (.iload_n 3, 1) := dk_29 (dk_at dksL_law_35 17 rfl rfl)
theorem dL_law_1060 : decode cL_law 1060 = .ok (.iconst 2, 1) := dk_5 (dk_at dksL_law_35 18 rfl rfl)
theorem dL_law_1061 : decode cL_law 1061 = .ok (.iadd, 1) := dk_96 (dk_at dksL_law_35 19 rfl rfl)
theorem dL_law_1062 : decode cL_law 1062 = .ok (.iaload, 1) := dk_46 (dk_at dksL_law_35 20 rfl rfl)
theorem dL_law_1063 : decode cL_law 1063 = .ok (.invokevirtual 137, 3) := dk_182 0 137 (dk_at dksL_law_35 21 rfl rfl)
theorem dL_law_1066 : decode cL_law 1066 = .ok (.aload_n 2, 1) := dk_44 (dk_at dksL_law_36 0 rfl rfl)
theorem dL_law_1067 : decode cL_law 1067 = .ok (.aload_n 0, 1) := dk_42 (dk_at dksL_law_36 1 rfl rfl)
theorem dL_law_1068 : decode cL_law 1068 = .ok (.iload_n 3, 1) := dk_29 (dk_at dksL_law_36 2 rfl rfl)
theorem dL_law_1069 : decode cL_law 1069 = .ok (.iconst 1, 1) := dk_4 (dk_at dksL_law_36 3 rfl rfl)
theorem dL_law_1070 : decode cL_law 1070 = .ok (.iadd, 1) := dk_96 (dk_at dksL_law_36 4 rfl rfl)
theorem dL_law_1071 : decode cL_law 1071 = .ok (.iaload, 1) := dk_46 (dk_at dksL_law_36 5 rfl rfl)
theorem dL_law_1072 : decode cL_law 1072 = .ok (.aload_n 0, 1) := dk_42 (dk_at dksL_law_36 6 rfl rfl)
theorem dL_law_1073 : decode cL_law 1073 = .ok (.iload_n 3, 1) := dk_29 (dk_at dksL_law_36 7 rfl rfl)
theorem dL_law_1074 : decode cL_law 1074 = .ok (.iconst 2, 1) := dk_5 (dk_at dksL_law_36 8 rfl rfl)
theorem dL_law_1075 : decode cL_law 1075 = .ok (.iadd, 1) := dk_96 (dk_at dksL_law_36 9 rfl rfl)
theorem dL_law_1076 : decode cL_law 1076 = .ok (.iaload, 1) := dk_46 (dk_at dksL_law_36 10 rfl rfl)
theorem dL_law_1077 : decode cL_law 1077 = .ok (.invokevirtual 140, 3) := dk_182 0 140 (dk_at dksL_law_36 11 rfl rfl)
theorem dL_law_1080 : decode cL_law 1080 = .ok (.if_icmp .eq 916, 3) := dk_159 3 148 (dk_at dksL_law_36 14 rfl rfl)
theorem dL_law_1083 : decode cL_law 1083 = .ok (.iconst 0, 1) := dk_3 (dk_at dksL_law_36 17 rfl rfl)
theorem dL_law_1084 : decode cL_law 1084 = .ok (.ireturn, 1) := dk_172 (dk_at dksL_law_36 18 rfl rfl)
theorem dL_law_1085 : decode cL_law 1085 = .ok (.aload_n 1, 1) := dk_43 (dk_at dksL_law_36 19 rfl rfl)
theorem dL_law_1086 : decode cL_law 1086 = .ok (.aload_n 0, 1) := dk_42 (dk_at dksL_law_36 20 rfl rfl)
theorem dL_law_1087 : decode cL_law 1087 = .ok (.iload_n 3, 1) := dk_29 (dk_at dksL_law_36 21 rfl rfl)
theorem dL_law_1088 : decode cL_law 1088 = .ok (.iconst 1, 1) := dk_4 (dk_at dksL_law_36 22 rfl rfl)
theorem dL_law_1089 : decode cL_law 1089 = .ok (.iadd, 1) := dk_96 (dk_at dksL_law_36 23 rfl rfl)
theorem dL_law_1090 : decode cL_law 1090 = .ok (.iaload, 1) := dk_46 (dk_at dksL_law_37 0 rfl rfl)
theorem dL_law_1091 : decode cL_law 1091 = .ok (.aload_n 0, 1) := dk_42 (dk_at dksL_law_37 1 rfl rfl)
theorem dL_law_1092 : decode cL_law 1092 = .ok (.iload_n 3, 1) := dk_29 (dk_at dksL_law_37 2 rfl rfl)
theorem dL_law_1093 : decode cL_law 1093 = .ok (.iconst 2, 1) := dk_5 (dk_at dksL_law_37 3 rfl rfl)
theorem dL_law_1094 : decode cL_law 1094 = .ok (.iadd, 1) := dk_96 (dk_at dksL_law_37 4 rfl rfl)
theorem dL_law_1095 : decode cL_law 1095 = .ok (.iaload, 1) := dk_46 (dk_at dksL_law_37 5 rfl rfl)
theorem dL_law_1096 : decode cL_law 1096 = .ok (.invokevirtual 141, 3) := dk_182 0 141 (dk_at dksL_law_37 6 rfl rfl)
theorem dL_law_1099 : decode cL_law 1099 = .ok (.aload_n 2, 1) := dk_44 (dk_at dksL_law_37 9 rfl rfl)
theorem dL_law_1100 : decode cL_law 1100 = .ok (.aload_n 0, 1) := dk_42 (dk_at dksL_law_37 10 rfl rfl)
theorem dL_law_1101 : decode cL_law 1101 = .ok (.iload_n 3, 1) := dk_29 (dk_at dksL_law_37 11 rfl rfl)
theorem dL_law_1102 : decode cL_law 1102 = .ok (.iconst 1, 1) := dk_4 (dk_at dksL_law_37 12 rfl rfl)
theorem dL_law_1103 : decode cL_law 1103 = .ok (.iadd, 1) := dk_96 (dk_at dksL_law_37 13 rfl rfl)
theorem dL_law_1104 : decode cL_law 1104 = .ok (.iaload, 1) := dk_46 (dk_at dksL_law_37 14 rfl rfl)
theorem dL_law_1105 : decode cL_law 1105 = .ok (.aload_n 0, 1) := dk_42 (dk_at dksL_law_37 15 rfl rfl)
theorem dL_law_1106 : decode cL_law 1106 = .ok (.iload_n 3, 1) := dk_29 (dk_at dksL_law_37 16 rfl rfl)
theorem dL_law_1107 : decode cL_law 1107 = .ok (.iconst 2, 1) := dk_5 (dk_at dksL_law_37 17 rfl rfl)
theorem dL_law_1108 : decode cL_law 1108 = .ok (.iadd, 1) := dk_96 (dk_at dksL_law_37 18 rfl rfl)
theorem dL_law_1109 : decode cL_law 1109 = .ok (.iaload, 1) := dk_46 (dk_at dksL_law_37 19 rfl rfl)
theorem dL_law_1110 : decode cL_law 1110 = .ok (.invokevirtual 144, 3) := dk_182 0 144 (dk_at dksL_law_37 20 rfl rfl)
theorem dL_law_1113 : decode cL_law 1113 = .ok (.if_icmp .eq 883, 3) := dk_159 3 115 (dk_at dksL_law_38 0 rfl rfl)
theorem dL_law_1116 : decode cL_law 1116 = .ok (.iconst 0, 1) := dk_3 (dk_at dksL_law_38 3 rfl rfl)
theorem dL_law_1117 : decode cL_law 1117 = .ok (.ireturn, 1) := dk_172 (dk_at dksL_law_38 4 rfl rfl)
theorem dL_law_1118 : decode cL_law 1118 = .ok (.aload_n 1, 1) := dk_43 (dk_at dksL_law_38 5 rfl rfl)
theorem dL_law_1119 : decode cL_law 1119 = .ok (.aload_n 0, 1) := dk_42 (dk_at dksL_law_38 6 rfl rfl)
theorem dL_law_1120 : decode cL_law 1120 = .ok (.iload_n 3, 1) := dk_29 (dk_at dksL_law_38 7 rfl rfl)
theorem dL_law_1121 : decode cL_law 1121 = .ok (.iconst 1, 1) := dk_4 (dk_at dksL_law_38 8 rfl rfl)
theorem dL_law_1122 : decode cL_law 1122 = .ok (.iadd, 1) := dk_96 (dk_at dksL_law_38 9 rfl rfl)
theorem dL_law_1123 : decode cL_law 1123 = .ok (.iaload, 1) := dk_46 (dk_at dksL_law_38 10 rfl rfl)
theorem dL_law_1124 : decode cL_law 1124 = .ok (.aload_n 0, 1) := dk_42 (dk_at dksL_law_38 11 rfl rfl)
theorem dL_law_1125 : decode cL_law 1125 = .ok (.iload_n 3, 1) := dk_29 (dk_at dksL_law_38 12 rfl rfl)
theorem dL_law_1126 : decode cL_law 1126 = .ok (.iconst 2, 1) := dk_5 (dk_at dksL_law_38 13 rfl rfl)
theorem dL_law_1127 : decode cL_law 1127 = .ok (.iadd, 1) := dk_96 (dk_at dksL_law_38 14 rfl rfl)
theorem dL_law_1128 : decode cL_law 1128 = .ok (.iaload, 1) := dk_46 (dk_at dksL_law_38 15 rfl rfl)
theorem dL_law_1129 : decode cL_law 1129 = .ok (.invokevirtual 145, 3) := dk_182 0 145 (dk_at dksL_law_38 16 rfl rfl)
theorem dL_law_1132 : decode cL_law 1132 = .ok (.aload_n 2, 1) := dk_44 (dk_at dksL_law_38 19 rfl rfl)
theorem dL_law_1133 : decode cL_law 1133 = .ok (.aload_n 0, 1) := dk_42 (dk_at dksL_law_38 20 rfl rfl)
theorem dL_law_1134 : decode cL_law 1134 = .ok (.iload_n 3, 1) := dk_29 (dk_at dksL_law_38 21 rfl rfl)
theorem dL_law_1135 : decode cL_law 1135 = .ok (.iconst 1, 1) := dk_4 (dk_at dksL_law_38 22 rfl rfl)
theorem dL_law_1136 : decode cL_law 1136 = .ok (.iadd, 1) := dk_96 (dk_at dksL_law_38 23 rfl rfl)
theorem dL_law_1137 : decode cL_law 1137 = .ok (.iaload, 1) := dk_46 (dk_at dksL_law_39 0 rfl rfl)
theorem dL_law_1138 : decode cL_law 1138 = .ok (.aload_n 0, 1) := dk_42 (dk_at dksL_law_39 1 rfl rfl)
theorem dL_law_1139 : decode cL_law 1139 = .ok (.iload_n 3, 1) := dk_29 (dk_at dksL_law_39 2 rfl rfl)
theorem dL_law_1140 : decode cL_law 1140 = .ok (.iconst 2, 1) := dk_5 (dk_at dksL_law_39 3 rfl rfl)
theorem dL_law_1141 : decode cL_law 1141 = .ok (.iadd, 1) := dk_96 (dk_at dksL_law_39 4 rfl rfl)
theorem dL_law_1142 : decode cL_law 1142 = .ok (.iaload, 1) := dk_46 (dk_at dksL_law_39 5 rfl rfl)
theorem dL_law_1143 : decode cL_law 1143 = .ok (.invokevirtual 148, 3) := dk_182 0 148 (dk_at dksL_law_39 6 rfl rfl)
theorem dL_law_1146 : decode cL_law 1146 = .ok (.if_icmp .eq 850, 3) := dk_159 3 82 (dk_at dksL_law_39 9 rfl rfl)
theorem dL_law_1149 : decode cL_law 1149 = .ok (.iconst 0, 1) := dk_3 (dk_at dksL_law_39 12 rfl rfl)
theorem dL_law_1150 : decode cL_law 1150 = .ok (.ireturn, 1) := dk_172 (dk_at dksL_law_39 13 rfl rfl)
theorem dL_law_1151 : decode cL_law 1151 = .ok (.aload_n 1, 1) := dk_43 (dk_at dksL_law_39 14 rfl rfl)
theorem dL_law_1152 : decode cL_law 1152 = .ok (.aload_n 0, 1) := dk_42 (dk_at dksL_law_39 15 rfl rfl)
theorem dL_law_1153 : decode cL_law 1153 = .ok (.iload_n 3, 1) := dk_29 (dk_at dksL_law_39 16 rfl rfl)
theorem dL_law_1154 : decode cL_law 1154 = .ok (.iconst 1, 1) := dk_4 (dk_at dksL_law_39 17 rfl rfl)
theorem dL_law_1155 : decode cL_law 1155 = .ok (.iadd, 1) := dk_96 (dk_at dksL_law_39 18 rfl rfl)
theorem dL_law_1156 : decode cL_law 1156 = .ok (.iaload, 1) := dk_46 (dk_at dksL_law_39 19 rfl rfl)
theorem dL_law_1157 : decode cL_law 1157 = .ok (.invokevirtual 149, 3) := dk_182 0 149 (dk_at dksL_law_39 20 rfl rfl)
theorem dL_law_1160 : decode cL_law 1160 = .ok (.aload_n 2, 1) := dk_44 (dk_at dksL_law_39 23 rfl rfl)
theorem dL_law_1161 : decode cL_law 1161 = .ok (.aload_n 0, 1) := dk_42 (dk_at dksL_law_40 0 rfl rfl)
theorem dL_law_1162 : decode cL_law 1162 = .ok (.iload_n 3, 1) := dk_29 (dk_at dksL_law_40 1 rfl rfl)
theorem dL_law_1163 : decode cL_law 1163 = .ok (.iconst 1, 1) := dk_4 (dk_at dksL_law_40 2 rfl rfl)
theorem dL_law_1164 : decode cL_law 1164 = .ok (.iadd, 1) := dk_96 (dk_at dksL_law_40 3 rfl rfl)
theorem dL_law_1165 : decode cL_law 1165 = .ok (.iaload, 1) := dk_46 (dk_at dksL_law_40 4 rfl rfl)
theorem dL_law_1166 : decode cL_law 1166 = .ok (.invokevirtual 152, 3) := dk_182 0 152 (dk_at dksL_law_40 5 rfl rfl)
theorem dL_law_1169 : decode cL_law 1169 = .ok (.if_icmp .eq 827, 3) := dk_159 3 59 (dk_at dksL_law_40 8 rfl rfl)
theorem dL_law_1172 : decode cL_law 1172 = .ok (.iconst 0, 1) := dk_3 (dk_at dksL_law_40 11 rfl rfl)
theorem dL_law_1173 : decode cL_law 1173 = .ok (.ireturn, 1) := dk_172 (dk_at dksL_law_40 12 rfl rfl)
theorem dL_law_1174 : decode cL_law 1174 = .ok (.aload_n 1, 1) := dk_43 (dk_at dksL_law_40 13 rfl rfl)
theorem dL_law_1175 : decode cL_law 1175 = .ok (.aload_n 0, 1) := dk_42 (dk_at dksL_law_40 14 rfl rfl)
theorem dL_law_1176 : decode cL_law 1176 = .ok (.iload_n 3, 1) := dk_29 (dk_at dksL_law_40 15 rfl rfl)
theorem dL_law_1177 : decode cL_law 1177 = .ok (.iconst 1, 1) := dk_4 (dk_at dksL_law_40 16 rfl rfl)
theorem dL_law_1178 : decode cL_law 1178 = .ok (.iadd, 1) := dk_96 (dk_at dksL_law_40 17 rfl rfl)
theorem dL_law_1179 : decode cL_law 1179 = .ok (.iaload, 1) := dk_46 (dk_at dksL_law_40 18 rfl rfl)
theorem dL_law_1180 : decode cL_law 1180 = .ok (.invokevirtual 153, 3) := dk_182 0 153 (dk_at dksL_law_40 19 rfl rfl)
theorem dL_law_1183 : decode cL_law 1183 = .ok (.aload_n 2, 1) := dk_44 (dk_at dksL_law_40 22 rfl rfl)
theorem dL_law_1184 : decode cL_law 1184 = .ok (.aload_n 0, 1) := dk_42 (dk_at dksL_law_40 23 rfl rfl)
theorem dL_law_1185 : decode cL_law 1185 = .ok (.iload_n 3, 1) := dk_29 (dk_at dksL_law_41 0 rfl rfl)
theorem dL_law_1186 : decode cL_law 1186 = .ok (.iconst 1, 1) := dk_4 (dk_at dksL_law_41 1 rfl rfl)
theorem dL_law_1187 : decode cL_law 1187 = .ok (.iadd, 1) := dk_96 (dk_at dksL_law_41 2 rfl rfl)
theorem dL_law_1188 : decode cL_law 1188 = .ok (.iaload, 1) := dk_46 (dk_at dksL_law_41 3 rfl rfl)
theorem dL_law_1189 : decode cL_law 1189 = .ok (.invokevirtual 156, 3) := dk_182 0 156 (dk_at dksL_law_41 4 rfl rfl)
theorem dL_law_1192 : decode cL_law 1192 = .ok (.if_icmp .eq 804, 3) := dk_159 3 36 (dk_at dksL_law_41 7 rfl rfl)
theorem dL_law_1195 : decode cL_law 1195 = .ok (.iconst 0, 1) := dk_3 (dk_at dksL_law_41 10 rfl rfl)
theorem dL_law_1196 : decode cL_law 1196 = .ok (.ireturn, 1) := dk_172 (dk_at dksL_law_41 11 rfl rfl)
theorem dL_law_1197 : decode cL_law 1197 = .ok (.aload_n 1, 1) := dk_43 (dk_at dksL_law_41 12 rfl rfl)
theorem dL_law_1198 : decode cL_law 1198 = .ok (.aload_n 0, 1) := dk_42 (dk_at dksL_law_41 13 rfl rfl)
theorem dL_law_1199 : decode cL_law 1199 = .ok (.iload_n 3, 1) := dk_29 (dk_at dksL_law_41 14 rfl rfl)
theorem dL_law_1200 : decode cL_law 1200 = .ok (.iconst 1, 1) := dk_4 (dk_at dksL_law_41 15 rfl rfl)
theorem dL_law_1201 : decode cL_law 1201 = .ok (.iadd, 1) := dk_96 (dk_at dksL_law_41 16 rfl rfl)
theorem dL_law_1202 : decode cL_law 1202 = .ok (.iaload, 1) := dk_46 (dk_at dksL_law_41 17 rfl rfl)
theorem dL_law_1203 : decode cL_law 1203 = .ok (.aload_n 0, 1) := dk_42 (dk_at dksL_law_41 18 rfl rfl)
theorem dL_law_1204 : decode cL_law 1204 = .ok (.iload_n 3, 1) := dk_29 (dk_at dksL_law_41 19 rfl rfl)
theorem dL_law_1205 : decode cL_law 1205 = .ok (.iconst 2, 1) := dk_5 (dk_at dksL_law_41 20 rfl rfl)
theorem dL_law_1206 : decode cL_law 1206 = .ok (.iadd, 1) := dk_96 (dk_at dksL_law_41 21 rfl rfl)
theorem dL_law_1207 : decode cL_law 1207 = .ok (.iaload, 1) := dk_46 (dk_at dksL_law_41 22 rfl rfl)
theorem dL_law_1208 : decode cL_law 1208 = .ok (.invokevirtual 157, 3) := dk_182 0 157 (dk_at dksL_law_42 0 rfl rfl)
theorem dL_law_1211 : decode cL_law 1211 = .ok (.aload_n 2, 1) := dk_44 (dk_at dksL_law_42 3 rfl rfl)
theorem dL_law_1212 : decode cL_law 1212 = .ok (.aload_n 0, 1) := dk_42 (dk_at dksL_law_42 4 rfl rfl)
theorem dL_law_1213 : decode cL_law 1213 = .ok (.iload_n 3, 1) := dk_29 (dk_at dksL_law_42 5 rfl rfl)
theorem dL_law_1214 : decode cL_law 1214 = .ok (.iconst 1, 1) := dk_4 (dk_at dksL_law_42 6 rfl rfl)
theorem dL_law_1215 : decode cL_law 1215 = .ok (.iadd, 1) := dk_96 (dk_at dksL_law_42 7 rfl rfl)
theorem dL_law_1216 : decode cL_law 1216 = .ok (.iaload, 1) := dk_46 (dk_at dksL_law_42 8 rfl rfl)
theorem dL_law_1217 : decode cL_law 1217 = .ok (.aload_n 0, 1) := dk_42 (dk_at dksL_law_42 9 rfl rfl)
theorem dL_law_1218 : decode cL_law 1218 = .ok (.iload_n 3, 1) := dk_29 (dk_at dksL_law_42 10 rfl rfl)
theorem dL_law_1219 : decode cL_law 1219 = .ok (.iconst 2, 1) := dk_5 (dk_at dksL_law_42 11 rfl rfl)
theorem dL_law_1220 : decode cL_law 1220 = .ok (.iadd, 1) := dk_96 (dk_at dksL_law_42 12 rfl rfl)
theorem dL_law_1221 : decode cL_law 1221 = .ok (.iaload, 1) := dk_46 (dk_at dksL_law_42 13 rfl rfl)
theorem dL_law_1222 : decode cL_law 1222 = .ok (.invokevirtual 160, 3) := dk_182 0 160 (dk_at dksL_law_42 14 rfl rfl)
theorem dL_law_1225 : decode cL_law 1225 = .ok (.lcmp, 1) := dk_148 (dk_at dksL_law_42 17 rfl rfl)
theorem dL_law_1226 : decode cL_law 1226 = .ok (.ifCond .eq 770, 3) := dk_153 3 2 (dk_at dksL_law_42 18 rfl rfl)
theorem dL_law_1229 : decode cL_law 1229 = .ok (.iconst 0, 1) := dk_3 (dk_at dksL_law_42 21 rfl rfl)
theorem dL_law_1230 : decode cL_law 1230 = .ok (.ireturn, 1) := dk_172 (dk_at dksL_law_42 22 rfl rfl)
theorem dL_law_1231 : decode cL_law 1231 = .ok (.aload_n 1, 1) := dk_43 (dk_at dksL_law_42 23 rfl rfl)
theorem dL_law_1232 : decode cL_law 1232 = .ok (.aload_n 0, 1) := dk_42 (dk_at dksL_law_43 0 rfl rfl)
theorem dL_law_1233 : decode cL_law 1233 = .ok (.iload_n 3, 1) := dk_29 (dk_at dksL_law_43 1 rfl rfl)
theorem dL_law_1234 : decode cL_law 1234 = .ok (.iconst 1, 1) := dk_4 (dk_at dksL_law_43 2 rfl rfl)
theorem dL_law_1235 : decode cL_law 1235 = .ok (.iadd, 1) := dk_96 (dk_at dksL_law_43 3 rfl rfl)
theorem dL_law_1236 : decode cL_law 1236 = .ok (.iaload, 1) := dk_46 (dk_at dksL_law_43 4 rfl rfl)
theorem dL_law_1237 : decode cL_law 1237 = .ok (.ifCond .eq 7, 3) := dk_153 0 7 (dk_at dksL_law_43 5 rfl rfl)
theorem dL_law_1240 : decode cL_law 1240 = .ok (.iconst 1, 1) := dk_4 (dk_at dksL_law_43 8 rfl rfl)
theorem dL_law_1241 : decode cL_law 1241 = .ok (.goto 4, 3) := dk_167 0 4 (dk_at dksL_law_43 9 rfl rfl)
theorem dL_law_1244 : decode cL_law 1244 = .ok (.iconst 0, 1) := dk_3 (dk_at dksL_law_43 12 rfl rfl)
theorem dL_law_1245 : decode cL_law 1245 = .ok (.invokevirtual 161, 3) := dk_182 0 161 (dk_at dksL_law_43 13 rfl rfl)
theorem dL_law_1248 : decode cL_law 1248 = .ok (.aload_n 2, 1) := dk_44 (dk_at dksL_law_43 16 rfl rfl)
theorem dL_law_1249 : decode cL_law 1249 = .ok (.aload_n 0, 1) := dk_42 (dk_at dksL_law_43 17 rfl rfl)
theorem dL_law_1250 : decode cL_law 1250 = .ok (.iload_n 3, 1) := dk_29 (dk_at dksL_law_43 18 rfl rfl)
theorem dL_law_1251 : decode cL_law 1251 = .ok (.iconst 1, 1) := dk_4 (dk_at dksL_law_43 19 rfl rfl)
theorem dL_law_1252 : decode cL_law 1252 = .ok (.iadd, 1) := dk_96 (dk_at dksL_law_43 20 rfl rfl)
theorem dL_law_1253 : decode cL_law 1253 = .ok (.iaload, 1) := dk_46 (dk_at dksL_law_43 21 rfl rfl)
theorem dL_law_1254 : decode cL_law 1254 = .ok (.ifCond .eq 7, 3) := dk_153 0 7 (dk_at dksL_law_44 0 rfl rfl)
theorem dL_law_1257 : decode cL_law 1257 = .ok (.iconst 1, 1) := dk_4 (dk_at dksL_law_44 3 rfl rfl)
theorem dL_law_1258 : decode cL_law 1258 = .ok (.goto 4, 3) := dk_167 0 4 (dk_at dksL_law_44 4 rfl rfl)
theorem dL_law_1261 : decode cL_law 1261 = .ok (.iconst 0, 1) := dk_3 (dk_at dksL_law_44 7 rfl rfl)
theorem dL_law_1262 : decode cL_law 1262 = .ok (.invokevirtual 165, 3) := dk_182 0 165 (dk_at dksL_law_44 8 rfl rfl)
theorem dL_law_1265 : decode cL_law 1265 = .ok (.if_icmp .eq 731, 3) := dk_159 2 219 (dk_at dksL_law_44 11 rfl rfl)
theorem dL_law_1268 : decode cL_law 1268 = .ok (.iconst 0, 1) := dk_3 (dk_at dksL_law_44 14 rfl rfl)
theorem dL_law_1269 : decode cL_law 1269 = .ok (.ireturn, 1) := dk_172 (dk_at dksL_law_44 15 rfl rfl)
theorem dL_law_1270 : decode cL_law 1270 = .ok (.aload_n 1, 1) := dk_43 (dk_at dksL_law_44 16 rfl rfl)
theorem dL_law_1271 : decode cL_law 1271 = .ok (.invokevirtual 166, 3) := dk_182 0 166 (dk_at dksL_law_44 17 rfl rfl)
theorem dL_law_1274 : decode cL_law 1274 = .ok (.aload_n 2, 1) := dk_44 (dk_at dksL_law_44 20 rfl rfl)
theorem dL_law_1275 : decode cL_law 1275 = .ok (.invokevirtual 169, 3) := dk_182 0 169 (dk_at dksL_law_44 21 rfl rfl)
theorem dL_law_1278 : decode cL_law 1278 = .ok (.lcmp, 1) := dk_148 (dk_at dksL_law_45 0 rfl rfl)
theorem dL_law_1279 : decode cL_law 1279 = .ok (.ifCond .eq 717, 3) := dk_153 2 205 (dk_at dksL_law_45 1 rfl rfl)
theorem dL_law_1282 : decode cL_law 1282 = .ok (.iconst 0, 1) := dk_3 (dk_at dksL_law_45 4 rfl rfl)
theorem dL_law_1283 : decode cL_law 1283 = .ok (.ireturn, 1) := dk_172 (dk_at dksL_law_45 5 rfl rfl)
theorem dL_law_1284 : decode cL_law 1284 = .ok (.aload_n 1, 1) := dk_43 (dk_at dksL_law_45 6 rfl rfl)
theorem dL_law_1285 : decode cL_law 1285 = .ok (.invokevirtual 170, 3) := dk_182 0 170 (dk_at dksL_law_45 7 rfl rfl)
theorem dL_law_1288 : decode cL_law 1288 = .ok (.aload_n 2, 1) := dk_44 (dk_at dksL_law_45 10 rfl rfl)
theorem dL_law_1289 : decode cL_law 1289 = .ok (.invokevirtual 173, 3) := dk_182 0 173 (dk_at dksL_law_45 11 rfl rfl)
theorem dL_law_1292 : decode cL_law 1292 = .ok (.if_icmp .eq 704, 3) := dk_159 2 192 (dk_at dksL_law_45 14 rfl rfl)
theorem dL_law_1295 : decode cL_law 1295 = .ok (.iconst 0, 1) := dk_3 (dk_at dksL_law_45 17 rfl rfl)
theorem dL_law_1296 : decode cL_law 1296 = .ok (.ireturn, 1) := dk_172 (dk_at dksL_law_45 18 rfl rfl)
theorem dL_law_1297 : decode cL_law 1297 = .ok (.aload_n 1, 1) := dk_43 (dk_at dksL_law_45 19 rfl rfl)
theorem dL_law_1298 : decode cL_law 1298 = .ok (.invokevirtual 174, 3) := dk_182 0 174 (dk_at dksL_law_45 20 rfl rfl)
theorem dL_law_1301 : decode cL_law 1301 = .ok (.aload_n 2, 1) := dk_44 (dk_at dksL_law_45 23 rfl rfl)
theorem dL_law_1302 : decode cL_law 1302 = .ok (.invokevirtual 177, 3) := dk_182 0 177 (dk_at dksL_law_46 0 rfl rfl)
theorem dL_law_1305 : decode cL_law 1305 = .ok (.if_icmp .eq 691, 3) := dk_159 2 179 (dk_at dksL_law_46 3 rfl rfl)
theorem dL_law_1308 : decode cL_law 1308 = .ok (.iconst 0, 1) := dk_3 (dk_at dksL_law_46 6 rfl rfl)
theorem dL_law_1309 : decode cL_law 1309 = .ok (.ireturn, 1) := dk_172 (dk_at dksL_law_46 7 rfl rfl)
theorem dL_law_1310 : decode cL_law 1310 = .ok (.aload_n 1, 1) := dk_43 (dk_at dksL_law_46 8 rfl rfl)
theorem dL_law_1311 : decode cL_law 1311 = .ok (.aload_n 0, 1) := dk_42 (dk_at dksL_law_46 9 rfl rfl)
theorem dL_law_1312 : decode cL_law 1312 = .ok (.iload_n 3, 1) := dk_29 (dk_at dksL_law_46 10 rfl rfl)
theorem dL_law_1313 : decode cL_law 1313 = .ok (.iconst 1, 1) := dk_4 (dk_at dksL_law_46 11 rfl rfl)
theorem dL_law_1314 : decode cL_law 1314 = .ok (.iadd, 1) := dk_96 (dk_at dksL_law_46 12 rfl rfl)
theorem dL_law_1315 : decode cL_law 1315 = .ok (.iaload, 1) := dk_46 (dk_at dksL_law_46 13 rfl rfl)
theorem dL_law_1316 : decode cL_law 1316 = .ok (.invokevirtual 178, 3) := dk_182 0 178 (dk_at dksL_law_46 14 rfl rfl)
theorem dL_law_1319 : decode cL_law 1319 = .ok (.aload_n 2, 1) := dk_44 (dk_at dksL_law_46 17 rfl rfl)
theorem dL_law_1320 : decode cL_law 1320 = .ok (.aload_n 0, 1) := dk_42 (dk_at dksL_law_46 18 rfl rfl)
theorem dL_law_1321 : decode cL_law 1321 = .ok (.iload_n 3, 1) := dk_29 (dk_at dksL_law_46 19 rfl rfl)
theorem dL_law_1322 : decode cL_law 1322 = .ok (.iconst 1, 1) := dk_4 (dk_at dksL_law_46 20 rfl rfl)
theorem dL_law_1323 : decode cL_law 1323 = .ok (.iadd, 1) := dk_96 (dk_at dksL_law_46 21 rfl rfl)
theorem dL_law_1324 : decode cL_law 1324 = .ok (.iaload, 1) := dk_46 (dk_at dksL_law_46 22 rfl rfl)
theorem dL_law_1325 : decode cL_law 1325 = .ok (.invokevirtual 181, 3) := dk_182 0 181 (dk_at dksL_law_47 0 rfl rfl)
theorem dL_law_1328 : decode cL_law 1328 = .ok (.lcmp, 1) := dk_148 (dk_at dksL_law_47 3 rfl rfl)
theorem dL_law_1329 : decode cL_law 1329 = .ok (.ifCond .eq 667, 3) := dk_153 2 155 (dk_at dksL_law_47 4 rfl rfl)
theorem dL_law_1332 : decode cL_law 1332 = .ok (.iconst 0, 1) := dk_3 (dk_at dksL_law_47 7 rfl rfl)
theorem dL_law_1333 : decode cL_law 1333 = .ok (.ireturn, 1) := dk_172 (dk_at dksL_law_47 8 rfl rfl)
theorem dL_law_1334 : decode cL_law 1334 = .ok (.aload_n 1, 1) := dk_43 (dk_at dksL_law_47 9 rfl rfl)
theorem dL_law_1335 : decode cL_law 1335 = .ok (.aload_n 0, 1) := dk_42 (dk_at dksL_law_47 10 rfl rfl)
theorem dL_law_1336 : decode cL_law 1336 = .ok (.iload_n 3, 1) := dk_29 (dk_at dksL_law_47 11 rfl rfl)
theorem dL_law_1337 : decode cL_law 1337 = .ok (.iconst 1, 1) := dk_4 (dk_at dksL_law_47 12 rfl rfl)
theorem dL_law_1338 : decode cL_law 1338 = .ok (.iadd, 1) := dk_96 (dk_at dksL_law_47 13 rfl rfl)
theorem dL_law_1339 : decode cL_law 1339 = .ok (.iaload, 1) := dk_46 (dk_at dksL_law_47 14 rfl rfl)
theorem dL_law_1340 : decode cL_law 1340 = .ok (.aload_n 0, 1) := dk_42 (dk_at dksL_law_47 15 rfl rfl)
theorem dL_law_1341 : decode cL_law 1341 = .ok (.iload_n 3, 1) := dk_29 (dk_at dksL_law_47 16 rfl rfl)
theorem dL_law_1342 : decode cL_law 1342 = .ok (.iconst 2, 1) := dk_5 (dk_at dksL_law_47 17 rfl rfl)
theorem dL_law_1343 : decode cL_law 1343 = .ok (.iadd, 1) := dk_96 (dk_at dksL_law_47 18 rfl rfl)
theorem dL_law_1344 : decode cL_law 1344 = .ok (.iaload, 1) := dk_46 (dk_at dksL_law_47 19 rfl rfl)
theorem dL_law_1345 : decode cL_law 1345 = .ok (.aload_n 0, 1) := dk_42 (dk_at dksL_law_47 20 rfl rfl)
theorem dL_law_1346 : decode cL_law 1346 = .ok (.iload_n 3, 1) := dk_29 (dk_at dksL_law_47 21 rfl rfl)
theorem dL_law_1347 : decode cL_law 1347 = .ok (.iconst 3, 1) := dk_6 (dk_at dksL_law_47 22 rfl rfl)
theorem dL_law_1348 : decode cL_law 1348 = .ok (.iadd, 1) := dk_96 (dk_at dksL_law_47 23 rfl rfl)
theorem dL_law_1349 : decode cL_law 1349 = .ok (.iaload, 1) := dk_46 (dk_at dksL_law_48 0 rfl rfl)
theorem dL_law_1350 : decode cL_law 1350 = .ok (.invokevirtual 182, 3) := dk_182 0 182 (dk_at dksL_law_48 1 rfl rfl)
theorem dL_law_1353 : decode cL_law 1353 = .ok (.aload_n 2, 1) := dk_44 (dk_at dksL_law_48 4 rfl rfl)
theorem dL_law_1354 : decode cL_law 1354 = .ok (.aload_n 0, 1) := dk_42 (dk_at dksL_law_48 5 rfl rfl)
theorem dL_law_1355 : decode cL_law 1355 = .ok (.iload_n 3, 1) := dk_29 (dk_at dksL_law_48 6 rfl rfl)
theorem dL_law_1356 : decode cL_law 1356 = .ok (.iconst 1, 1) := dk_4 (dk_at dksL_law_48 7 rfl rfl)
theorem dL_law_1357 : decode cL_law 1357 = .ok (.iadd, 1) := dk_96 (dk_at dksL_law_48 8 rfl rfl)
theorem dL_law_1358 : decode cL_law 1358 = .ok (.iaload, 1) := dk_46 (dk_at dksL_law_48 9 rfl rfl)
theorem dL_law_1359 : decode cL_law 1359 = .ok (.aload_n 0, 1) := dk_42 (dk_at dksL_law_48 10 rfl rfl)
theorem dL_law_1360 : decode cL_law 1360 = .ok (.iload_n 3, 1) := dk_29 (dk_at dksL_law_48 11 rfl rfl)
theorem dL_law_1361 : decode cL_law 1361 = .ok (.iconst 2, 1) := dk_5 (dk_at dksL_law_48 12 rfl rfl)
theorem dL_law_1362 : decode cL_law 1362 = .ok (.iadd, 1) := dk_96 (dk_at dksL_law_48 13 rfl rfl)
theorem dL_law_1363 : decode cL_law 1363 = .ok (.iaload, 1) := dk_46 (dk_at dksL_law_48 14 rfl rfl)
theorem dL_law_1364 : decode cL_law 1364 = .ok (.aload_n 0, 1) := dk_42 (dk_at dksL_law_48 15 rfl rfl)
theorem dL_law_1365 : decode cL_law 1365 = .ok (.iload_n 3, 1) := dk_29 (dk_at dksL_law_48 16 rfl rfl)
theorem dL_law_1366 : decode cL_law 1366 = .ok (.iconst 3, 1) := dk_6 (dk_at dksL_law_48 17 rfl rfl)
theorem dL_law_1367 : decode cL_law 1367 = .ok (.iadd, 1) := dk_96 (dk_at dksL_law_48 18 rfl rfl)
theorem dL_law_1368 : decode cL_law 1368 = .ok (.iaload, 1) := dk_46 (dk_at dksL_law_48 19 rfl rfl)
theorem dL_law_1369 : decode cL_law 1369 = .ok (.invokevirtual 185, 3) := dk_182 0 185 (dk_at dksL_law_48 20 rfl rfl)
theorem dL_law_1372 : decode cL_law 1372 = .ok (.lcmp, 1) := dk_148 (dk_at dksL_law_48 23 rfl rfl)
theorem dL_law_1373 : decode cL_law 1373 = .ok (.ifCond .eq 623, 3) := dk_153 2 111 (dk_at dksL_law_49 0 rfl rfl)
theorem dL_law_1376 : decode cL_law 1376 = .ok (.iconst 0, 1) := dk_3 (dk_at dksL_law_49 3 rfl rfl)
theorem dL_law_1377 : decode cL_law 1377 = .ok (.ireturn, 1) := dk_172 (dk_at dksL_law_49 4 rfl rfl)
theorem dL_law_1378 : decode cL_law 1378 = .ok (.aload_n 1, 1) := dk_43 (dk_at dksL_law_49 5 rfl rfl)
theorem dL_law_1379 : decode cL_law 1379 = .ok (.aload_n 0, 1) := dk_42 (dk_at dksL_law_49 6 rfl rfl)
theorem dL_law_1380 : decode cL_law 1380 = .ok (.iload_n 3, 1) := dk_29 (dk_at dksL_law_49 7 rfl rfl)
theorem dL_law_1381 : decode cL_law 1381 = .ok (.iconst 1, 1) := dk_4 (dk_at dksL_law_49 8 rfl rfl)
theorem dL_law_1382 : decode cL_law 1382 = .ok (.iadd, 1) := dk_96 (dk_at dksL_law_49 9 rfl rfl)
theorem dL_law_1383 : decode cL_law 1383 = .ok (.iaload, 1) := dk_46 (dk_at dksL_law_49 10 rfl rfl)
theorem dL_law_1384 : decode cL_law 1384 = .ok (.aload_n 0, 1) := dk_42 (dk_at dksL_law_49 11 rfl rfl)
theorem dL_law_1385 : decode cL_law 1385 = .ok (.iload_n 3, 1) := dk_29 (dk_at dksL_law_49 12 rfl rfl)
theorem dL_law_1386 : decode cL_law 1386 = .ok (.iconst 2, 1) := dk_5 (dk_at dksL_law_49 13 rfl rfl)
theorem dL_law_1387 : decode cL_law 1387 = .ok (.iadd, 1) := dk_96 (dk_at dksL_law_49 14 rfl rfl)
theorem dL_law_1388 : decode cL_law 1388 = .ok (.iaload, 1) := dk_46 (dk_at dksL_law_49 15 rfl rfl)
theorem dL_law_1389 : decode cL_law 1389 = .ok (.aload_n 0, 1) := dk_42 (dk_at dksL_law_49 16 rfl rfl)
theorem dL_law_1390 : decode cL_law 1390 = .ok (.iload_n 3, 1) := dk_29 (dk_at dksL_law_49 17 rfl rfl)
theorem dL_law_1391 : decode cL_law 1391 = .ok (.iconst 3, 1) := dk_6 (dk_at dksL_law_49 18 rfl rfl)
theorem dL_law_1392 : decode cL_law 1392 = .ok (.iadd, 1) := dk_96 (dk_at dksL_law_49 19 rfl rfl)
theorem dL_law_1393 : decode cL_law 1393 = .ok (.iaload, 1) := dk_46 (dk_at dksL_law_49 20 rfl rfl)
theorem dL_law_1394 : decode cL_law 1394 = .ok (.aload_n 0, 1) := dk_42 (dk_at dksL_law_49 21 rfl rfl)
theorem dL_law_1395 : decode cL_law 1395 = .ok (.iload_n 3, 1) := dk_29 (dk_at dksL_law_49 22 rfl rfl)
theorem dL_law_1396 : decode cL_law 1396 = .ok (.iconst 4, 1) := dk_7 (dk_at dksL_law_49 23 rfl rfl)
theorem dL_law_1397 : decode cL_law 1397 = .ok (.iadd, 1) := dk_96 (dk_at dksL_law_50 0 rfl rfl)
theorem dL_law_1398 : decode cL_law 1398 = .ok (.iaload, 1) := dk_46 (dk_at dksL_law_50 1 rfl rfl)
theorem dL_law_1399 : decode cL_law 1399 = .ok (.invokevirtual 186, 3) := dk_182 0 186 (dk_at dksL_law_50 2 rfl rfl)
theorem dL_law_1402 : decode cL_law 1402 = .ok (.aload_n 2, 1) := dk_44 (dk_at dksL_law_50 5 rfl rfl)
theorem dL_law_1403 : decode cL_law 1403 = .ok (.aload_n 0, 1) := dk_42 (dk_at dksL_law_50 6 rfl rfl)
theorem dL_law_1404 : decode cL_law 1404 = .ok (.iload_n 3, 1) := dk_29 (dk_at dksL_law_50 7 rfl rfl)
theorem dL_law_1405 : decode cL_law 1405 = .ok (.iconst 1, 1) := dk_4 (dk_at dksL_law_50 8 rfl rfl)
theorem dL_law_1406 : decode cL_law 1406 = .ok (.iadd, 1) := dk_96 (dk_at dksL_law_50 9 rfl rfl)
theorem dL_law_1407 : decode cL_law 1407 = .ok (.iaload, 1) := dk_46 (dk_at dksL_law_50 10 rfl rfl)
theorem dL_law_1408 : decode cL_law 1408 = .ok (.aload_n 0, 1) := dk_42 (dk_at dksL_law_50 11 rfl rfl)
theorem dL_law_1409 : decode cL_law 1409 = .ok (.iload_n 3, 1) := dk_29 (dk_at dksL_law_50 12 rfl rfl)
theorem dL_law_1410 : decode cL_law 1410 = .ok (.iconst 2, 1) := dk_5 (dk_at dksL_law_50 13 rfl rfl)
theorem dL_law_1411 : decode cL_law 1411 = .ok (.iadd, 1) := dk_96 (dk_at dksL_law_50 14 rfl rfl)
theorem dL_law_1412 : decode cL_law 1412 = .ok (.iaload, 1) := dk_46 (dk_at dksL_law_50 15 rfl rfl)
theorem dL_law_1413 : decode cL_law 1413 = .ok (.aload_n 0, 1) := dk_42 (dk_at dksL_law_50 16 rfl rfl)
theorem dL_law_1414 : decode cL_law 1414 = .ok (.iload_n 3, 1) := dk_29 (dk_at dksL_law_50 17 rfl rfl)
theorem dL_law_1415 : decode cL_law 1415 = .ok (.iconst 3, 1) := dk_6 (dk_at dksL_law_50 18 rfl rfl)
theorem dL_law_1416 : decode cL_law 1416 = .ok (.iadd, 1) := dk_96 (dk_at dksL_law_50 19 rfl rfl)
theorem dL_law_1417 : decode cL_law 1417 = .ok (.iaload, 1) := dk_46 (dk_at dksL_law_50 20 rfl rfl)
theorem dL_law_1418 : decode cL_law 1418 = .ok (.aload_n 0, 1) := dk_42 (dk_at dksL_law_50 21 rfl rfl)
theorem dL_law_1419 : decode cL_law 1419 = .ok (.iload_n 3, 1) := dk_29 (dk_at dksL_law_50 22 rfl rfl)
theorem dL_law_1420 : decode cL_law 1420 = .ok (.iconst 4, 1) := dk_7 (dk_at dksL_law_50 23 rfl rfl)
theorem dL_law_1421 : decode cL_law 1421 = .ok (.iadd, 1) := dk_96 (dk_at dksL_law_51 0 rfl rfl)
theorem dL_law_1422 : decode cL_law 1422 = .ok (.iaload, 1) := dk_46 (dk_at dksL_law_51 1 rfl rfl)
theorem dL_law_1423 : decode cL_law 1423 = .ok (.invokevirtual 190, 3) := dk_182 0 190 (dk_at dksL_law_51 2 rfl rfl)
theorem dL_law_1426 : decode cL_law 1426 = .ok (.lcmp, 1) := dk_148 (dk_at dksL_law_51 5 rfl rfl)
theorem dL_law_1427 : decode cL_law 1427 = .ok (.ifCond .eq 569, 3) := dk_153 2 57 (dk_at dksL_law_51 6 rfl rfl)
theorem dL_law_1430 : decode cL_law 1430 = .ok (.iconst 0, 1) := dk_3 (dk_at dksL_law_51 9 rfl rfl)
theorem dL_law_1431 : decode cL_law 1431 = .ok (.ireturn, 1) := dk_172 (dk_at dksL_law_51 10 rfl rfl)
theorem dL_law_1432 : decode cL_law 1432 = .ok (.aload_n 1, 1) := dk_43 (dk_at dksL_law_51 11 rfl rfl)
theorem dL_law_1433 : decode cL_law 1433 = .ok (.aload_n 0, 1) := dk_42 (dk_at dksL_law_51 12 rfl rfl)
theorem dL_law_1434 : decode cL_law 1434 = .ok (.iload_n 3, 1) := dk_29 (dk_at dksL_law_51 13 rfl rfl)
theorem dL_law_1435 : decode cL_law 1435 = .ok (.iconst 1, 1) := dk_4 (dk_at dksL_law_51 14 rfl rfl)
theorem dL_law_1436 : decode cL_law 1436 = .ok (.iadd, 1) := dk_96 (dk_at dksL_law_51 15 rfl rfl)
theorem dL_law_1437 : decode cL_law 1437 = .ok (.iaload, 1) := dk_46 (dk_at dksL_law_51 16 rfl rfl)
theorem dL_law_1438 : decode cL_law 1438 = .ok (.invokevirtual 191, 3) := dk_182 0 191 (dk_at dksL_law_51 17 rfl rfl)
theorem dL_law_1441 : decode cL_law 1441 = .ok (.aload_n 2, 1) := dk_44 (dk_at dksL_law_51 20 rfl rfl)
theorem dL_law_1442 : decode cL_law 1442 = .ok (.aload_n 0, 1) := dk_42 (dk_at dksL_law_51 21 rfl rfl)
theorem dL_law_1443 : decode cL_law 1443 = .ok (.iload_n 3, 1) := dk_29 (dk_at dksL_law_51 22 rfl rfl)
theorem dL_law_1444 : decode cL_law 1444 = .ok (.iconst 1, 1) := dk_4 (dk_at dksL_law_51 23 rfl rfl)
theorem dL_law_1445 : decode cL_law 1445 = .ok (.iadd, 1) := dk_96 (dk_at dksL_law_52 0 rfl rfl)
theorem dL_law_1446 : decode cL_law 1446 = .ok (.iaload, 1) := dk_46 (dk_at dksL_law_52 1 rfl rfl)
theorem dL_law_1447 : decode cL_law 1447 = .ok (.invokevirtual 194, 3) := dk_182 0 194 (dk_at dksL_law_52 2 rfl rfl)
theorem dL_law_1450 : decode cL_law 1450 = .ok (.if_icmp .eq 546, 3) := dk_159 2 34 (dk_at dksL_law_52 5 rfl rfl)
theorem dL_law_1453 : decode cL_law 1453 = .ok (.iconst 0, 1) := dk_3 (dk_at dksL_law_52 8 rfl rfl)
theorem dL_law_1454 : decode cL_law 1454 = .ok (.ireturn, 1) := dk_172 (dk_at dksL_law_52 9 rfl rfl)
theorem dL_law_1455 : decode cL_law 1455 = .ok (.aload_n 1, 1) := dk_43 (dk_at dksL_law_52 10 rfl rfl)
theorem dL_law_1456 : decode cL_law 1456 = .ok (.aload_n 0, 1) := dk_42 (dk_at dksL_law_52 11 rfl rfl)
theorem dL_law_1457 : decode cL_law 1457 = .ok (.iload_n 3, 1) := dk_29 (dk_at dksL_law_52 12 rfl rfl)
theorem dL_law_1458 : decode cL_law 1458 = .ok (.iconst 1, 1) := dk_4 (dk_at dksL_law_52 13 rfl rfl)
theorem dL_law_1459 : decode cL_law 1459 = .ok (.iadd, 1) := dk_96 (dk_at dksL_law_52 14 rfl rfl)
theorem dL_law_1460 : decode cL_law 1460 = .ok (.iaload, 1) := dk_46 (dk_at dksL_law_52 15 rfl rfl)
theorem dL_law_1461 : decode cL_law 1461 = .ok (.aload_n 0, 1) := dk_42 (dk_at dksL_law_52 16 rfl rfl)
theorem dL_law_1462 : decode cL_law 1462 = .ok (.iload_n 3, 1) := dk_29 (dk_at dksL_law_52 17 rfl rfl)
theorem dL_law_1463 : decode cL_law 1463 = .ok (.iconst 2, 1) := dk_5 (dk_at dksL_law_52 18 rfl rfl)
theorem dL_law_1464 : decode cL_law 1464 = .ok (.iadd, 1) := dk_96 (dk_at dksL_law_52 19 rfl rfl)
theorem dL_law_1465 : decode cL_law 1465 = .ok (.iaload, 1) := dk_46 (dk_at dksL_law_52 20 rfl rfl)
theorem dL_law_1466 : decode cL_law 1466 = .ok (.aload_n 0, 1) := dk_42 (dk_at dksL_law_52 21 rfl rfl)
theorem dL_law_1467 : decode cL_law 1467 = .ok (.iload_n 3, 1) := dk_29 (dk_at dksL_law_52 22 rfl rfl)
theorem dL_law_1468 : decode cL_law 1468 = .ok (.iconst 3, 1) := dk_6 (dk_at dksL_law_52 23 rfl rfl)
theorem dL_law_1469 : decode cL_law 1469 = .ok (.iadd, 1) := dk_96 (dk_at dksL_law_53 0 rfl rfl)
theorem dL_law_1470 : decode cL_law 1470 = .ok (.iaload, 1) := dk_46 (dk_at dksL_law_53 1 rfl rfl)
theorem dL_law_1471 : decode cL_law 1471 = .ok (.invokevirtual 195, 3) := dk_182 0 195 (dk_at dksL_law_53 2 rfl rfl)
theorem dL_law_1474 : decode cL_law 1474 = .ok (.aload_n 2, 1) := dk_44 (dk_at dksL_law_53 5 rfl rfl)
theorem dL_law_1475 : decode cL_law 1475 = .ok (.aload_n 0, 1) := dk_42 (dk_at dksL_law_53 6 rfl rfl)
theorem dL_law_1476 : decode cL_law 1476 = .ok (.iload_n 3, 1) := dk_29 (dk_at dksL_law_53 7 rfl rfl)
theorem dL_law_1477 : decode cL_law 1477 = .ok (.iconst 1, 1) := dk_4 (dk_at dksL_law_53 8 rfl rfl)
theorem dL_law_1478 : decode cL_law 1478 = .ok (.iadd, 1) := dk_96 (dk_at dksL_law_53 9 rfl rfl)
theorem dL_law_1479 : decode cL_law 1479 = .ok (.iaload, 1) := dk_46 (dk_at dksL_law_53 10 rfl rfl)
theorem dL_law_1480 : decode cL_law 1480 = .ok (.aload_n 0, 1) := dk_42 (dk_at dksL_law_53 11 rfl rfl)
theorem dL_law_1481 : decode cL_law 1481 = .ok (.iload_n 3, 1) := dk_29 (dk_at dksL_law_53 12 rfl rfl)
theorem dL_law_1482 : decode cL_law 1482 = .ok (.iconst 2, 1) := dk_5 (dk_at dksL_law_53 13 rfl rfl)
theorem dL_law_1483 : decode cL_law 1483 = .ok (.iadd, 1) := dk_96 (dk_at dksL_law_53 14 rfl rfl)
theorem dL_law_1484 : decode cL_law 1484 = .ok (.iaload, 1) := dk_46 (dk_at dksL_law_53 15 rfl rfl)
theorem dL_law_1485 : decode cL_law 1485 = .ok (.aload_n 0, 1) := dk_42 (dk_at dksL_law_53 16 rfl rfl)
theorem dL_law_1486 : decode cL_law 1486 = .ok (.iload_n 3, 1) := dk_29 (dk_at dksL_law_53 17 rfl rfl)
theorem dL_law_1487 : decode cL_law 1487 = .ok (.iconst 3, 1) := dk_6 (dk_at dksL_law_53 18 rfl rfl)
theorem dL_law_1488 : decode cL_law 1488 = .ok (.iadd, 1) := dk_96 (dk_at dksL_law_53 19 rfl rfl)
theorem dL_law_1489 : decode cL_law 1489 = .ok (.iaload, 1) := dk_46 (dk_at dksL_law_53 20 rfl rfl)
theorem dL_law_1490 : decode cL_law 1490 = .ok (.invokevirtual 198, 3) := dk_182 0 198 (dk_at dksL_law_53 21 rfl rfl)
theorem dL_law_1493 : decode cL_law 1493 = .ok (.lcmp, 1) := dk_148 (dk_at dksL_law_54 0 rfl rfl)
theorem dL_law_1494 : decode cL_law 1494 = .ok (.ifCond .eq 502, 3) := dk_153 1 246 (dk_at dksL_law_54 1 rfl rfl)
theorem dL_law_1497 : decode cL_law 1497 = .ok (.iconst 0, 1) := dk_3 (dk_at dksL_law_54 4 rfl rfl)
theorem dL_law_1498 : decode cL_law 1498 = .ok (.ireturn, 1) := dk_172 (dk_at dksL_law_54 5 rfl rfl)
theorem dL_law_1499 : decode cL_law 1499 = .ok (.aload_n 1, 1) := dk_43 (dk_at dksL_law_54 6 rfl rfl)
theorem dL_law_1500 : decode cL_law 1500 = .ok (.aload_n 0, 1) := dk_42 (dk_at dksL_law_54 7 rfl rfl)
theorem dL_law_1501 : decode cL_law 1501 = .ok (.iload_n 3, 1) := dk_29 (dk_at dksL_law_54 8 rfl rfl)
theorem dL_law_1502 : decode cL_law 1502 = .ok (.iconst 1, 1) := dk_4 (dk_at dksL_law_54 9 rfl rfl)
theorem dL_law_1503 : decode cL_law 1503 = .ok (.iadd, 1) := dk_96 (dk_at dksL_law_54 10 rfl rfl)
theorem dL_law_1504 : decode cL_law 1504 = .ok (.iaload, 1) := dk_46 (dk_at dksL_law_54 11 rfl rfl)
theorem dL_law_1505 : decode cL_law 1505 = .ok (.aload_n 0, 1) := dk_42 (dk_at dksL_law_54 12 rfl rfl)
theorem dL_law_1506 : decode cL_law 1506 = .ok (.iload_n 3, 1) := dk_29 (dk_at dksL_law_54 13 rfl rfl)
theorem dL_law_1507 : decode cL_law 1507 = .ok (.iconst 2, 1) := dk_5 (dk_at dksL_law_54 14 rfl rfl)
theorem dL_law_1508 : decode cL_law 1508 = .ok (.iadd, 1) := dk_96 (dk_at dksL_law_54 15 rfl rfl)
theorem dL_law_1509 : decode cL_law 1509 = .ok (.iaload, 1) := dk_46 (dk_at dksL_law_54 16 rfl rfl)
theorem dL_law_1510 : decode cL_law 1510 = .ok (.aload_n 0, 1) := dk_42 (dk_at dksL_law_54 17 rfl rfl)
theorem dL_law_1511 : decode cL_law 1511 = .ok (.iload_n 3, 1) := dk_29 (dk_at dksL_law_54 18 rfl rfl)
theorem dL_law_1512 : decode cL_law 1512 = .ok (.iconst 3, 1) := dk_6 (dk_at dksL_law_54 19 rfl rfl)
theorem dL_law_1513 : decode cL_law 1513 = .ok (.iadd, 1) := dk_96 (dk_at dksL_law_54 20 rfl rfl)
theorem dL_law_1514 : decode cL_law 1514 = .ok (.iaload, 1) := dk_46 (dk_at dksL_law_54 21 rfl rfl)
theorem dL_law_1515 : decode cL_law 1515 = .ok (.invokevirtual 199, 3) := dk_182 0 199 (dk_at dksL_law_55 0 rfl rfl)
theorem dL_law_1518 : decode cL_law 1518 = .ok (.aload_n 2, 1) := dk_44 (dk_at dksL_law_55 3 rfl rfl)
theorem dL_law_1519 : decode cL_law 1519 = .ok (.aload_n 0, 1) := dk_42 (dk_at dksL_law_55 4 rfl rfl)
theorem dL_law_1520 : decode cL_law 1520 = .ok (.iload_n 3, 1) := dk_29 (dk_at dksL_law_55 5 rfl rfl)
theorem dL_law_1521 : decode cL_law 1521 = .ok (.iconst 1, 1) := dk_4 (dk_at dksL_law_55 6 rfl rfl)
theorem dL_law_1522 : decode cL_law 1522 = .ok (.iadd, 1) := dk_96 (dk_at dksL_law_55 7 rfl rfl)
theorem dL_law_1523 : decode cL_law 1523 = .ok (.iaload, 1) := dk_46 (dk_at dksL_law_55 8 rfl rfl)
theorem dL_law_1524 : decode cL_law 1524 = .ok (.aload_n 0, 1) := dk_42 (dk_at dksL_law_55 9 rfl rfl)
theorem dL_law_1525 : decode cL_law 1525 = .ok (.iload_n 3, 1) := dk_29 (dk_at dksL_law_55 10 rfl rfl)
theorem dL_law_1526 : decode cL_law 1526 = .ok (.iconst 2, 1) := dk_5 (dk_at dksL_law_55 11 rfl rfl)
theorem dL_law_1527 : decode cL_law 1527 = .ok (.iadd, 1) := dk_96 (dk_at dksL_law_55 12 rfl rfl)
theorem dL_law_1528 : decode cL_law 1528 = .ok (.iaload, 1) := dk_46 (dk_at dksL_law_55 13 rfl rfl)
theorem dL_law_1529 : decode cL_law 1529 = .ok (.aload_n 0, 1) := dk_42 (dk_at dksL_law_55 14 rfl rfl)
theorem dL_law_1530 : decode cL_law 1530 = .ok (.iload_n 3, 1) := dk_29 (dk_at dksL_law_55 15 rfl rfl)
theorem dL_law_1531 : decode cL_law 1531 = .ok (.iconst 3, 1) := dk_6 (dk_at dksL_law_55 16 rfl rfl)
theorem dL_law_1532 : decode cL_law 1532 = .ok (.iadd, 1) := dk_96 (dk_at dksL_law_55 17 rfl rfl)
theorem dL_law_1533 : decode cL_law 1533 = .ok (.iaload, 1) := dk_46 (dk_at dksL_law_55 18 rfl rfl)
theorem dL_law_1534 : decode cL_law 1534 = .ok (.invokevirtual 203, 3) := dk_182 0 203 (dk_at dksL_law_55 19 rfl rfl)
theorem dL_law_1537 : decode cL_law 1537 = .ok (.if_icmp .eq 459, 3) := dk_159 1 203 (dk_at dksL_law_56 0 rfl rfl)
theorem dL_law_1540 : decode cL_law 1540 = .ok (.iconst 0, 1) := dk_3 (dk_at dksL_law_56 3 rfl rfl)
theorem dL_law_1541 : decode cL_law 1541 = .ok (.ireturn, 1) := dk_172 (dk_at dksL_law_56 4 rfl rfl)
theorem dL_law_1542 : decode cL_law 1542 = .ok (.aload_n 1, 1) := dk_43 (dk_at dksL_law_56 5 rfl rfl)
theorem dL_law_1543 : decode cL_law 1543 = .ok (.aload_n 0, 1) := dk_42 (dk_at dksL_law_56 6 rfl rfl)
theorem dL_law_1544 : decode cL_law 1544 = .ok (.iload_n 3, 1) := dk_29 (dk_at dksL_law_56 7 rfl rfl)
theorem dL_law_1545 : decode cL_law 1545 = .ok (.iconst 1, 1) := dk_4 (dk_at dksL_law_56 8 rfl rfl)
theorem dL_law_1546 : decode cL_law 1546 = .ok (.iadd, 1) := dk_96 (dk_at dksL_law_56 9 rfl rfl)
theorem dL_law_1547 : decode cL_law 1547 = .ok (.iaload, 1) := dk_46 (dk_at dksL_law_56 10 rfl rfl)
theorem dL_law_1548 : decode cL_law 1548 = .ok (.invokevirtual 204, 3) := dk_182 0 204 (dk_at dksL_law_56 11 rfl rfl)
theorem dL_law_1551 : decode cL_law 1551 = .ok (.aload_n 2, 1) := dk_44 (dk_at dksL_law_56 14 rfl rfl)
theorem dL_law_1552 : decode cL_law 1552 = .ok (.aload_n 0, 1) := dk_42 (dk_at dksL_law_56 15 rfl rfl)
theorem dL_law_1553 : decode cL_law 1553 = .ok (.iload_n 3, 1) := dk_29 (dk_at dksL_law_56 16 rfl rfl)
theorem dL_law_1554 : decode cL_law 1554 = .ok (.iconst 1, 1) := dk_4 (dk_at dksL_law_56 17 rfl rfl)
theorem dL_law_1555 : decode cL_law 1555 = .ok (.iadd, 1) := dk_96 (dk_at dksL_law_56 18 rfl rfl)
theorem dL_law_1556 : decode cL_law 1556 = .ok (.iaload, 1) := dk_46 (dk_at dksL_law_56 19 rfl rfl)
theorem dL_law_1557 : decode cL_law 1557 = .ok (.invokevirtual 207, 3) := dk_182 0 207 (dk_at dksL_law_56 20 rfl rfl)
theorem dL_law_1560 : decode cL_law 1560 = .ok (.lcmp, 1) := dk_148 (dk_at dksL_law_56 23 rfl rfl)
theorem dL_law_1561 : decode cL_law 1561 = .ok (.ifCond .eq 435, 3) := dk_153 1 179 (dk_at dksL_law_57 0 rfl rfl)
theorem dL_law_1564 : decode cL_law 1564 = .ok (.iconst 0, 1) := dk_3 (dk_at dksL_law_57 3 rfl rfl)
theorem dL_law_1565 : decode cL_law 1565 = .ok (.ireturn, 1) := dk_172 (dk_at dksL_law_57 4 rfl rfl)
theorem dL_law_1566 : decode cL_law 1566 = .ok (.aload_n 1, 1) := dk_43 (dk_at dksL_law_57 5 rfl rfl)
theorem dL_law_1567 : decode cL_law 1567 = .ok (.invokevirtual 208, 3) := dk_182 0 208 (dk_at dksL_law_57 6 rfl rfl)
theorem dL_law_1570 : decode cL_law 1570 = .ok (.aload_n 2, 1) := dk_44 (dk_at dksL_law_57 9 rfl rfl)
theorem dL_law_1571 : decode cL_law 1571 = .ok (.invokevirtual 211, 3) := dk_182 0 211 (dk_at dksL_law_57 10 rfl rfl)
theorem dL_law_1574 : decode cL_law 1574 = .ok (.if_icmp .eq 422, 3) := dk_159 1 166 (dk_at dksL_law_57 13 rfl rfl)
theorem dL_law_1577 : decode cL_law 1577 = .ok (.iconst 0, 1) := dk_3 (dk_at dksL_law_57 16 rfl rfl)
theorem dL_law_1578 : decode cL_law 1578 = .ok (.ireturn, 1) := dk_172 (dk_at dksL_law_57 17 rfl rfl)
theorem dL_law_1579 : decode cL_law 1579 = .ok (.aload_n 1, 1) := dk_43 (dk_at dksL_law_57 18 rfl rfl)
theorem dL_law_1580 : decode cL_law 1580 = .ok (.aload_n 0, 1) := dk_42 (dk_at dksL_law_57 19 rfl rfl)
theorem dL_law_1581 : decode cL_law 1581 = .ok (.iload_n 3, 1) := dk_29 (dk_at dksL_law_57 20 rfl rfl)
theorem dL_law_1582 : decode cL_law 1582 = .ok (.iconst 1, 1) := dk_4 (dk_at dksL_law_57 21 rfl rfl)
theorem dL_law_1583 : decode cL_law 1583 = .ok (.iadd, 1) := dk_96 (dk_at dksL_law_57 22 rfl rfl)
theorem dL_law_1584 : decode cL_law 1584 = .ok (.iaload, 1) := dk_46 (dk_at dksL_law_57 23 rfl rfl)
theorem dL_law_1585 : decode cL_law 1585 = .ok (.aload_n 0, 1) := dk_42 (dk_at dksL_law_58 0 rfl rfl)
theorem dL_law_1586 : decode cL_law 1586 = .ok (.iload_n 3, 1) := dk_29 (dk_at dksL_law_58 1 rfl rfl)
theorem dL_law_1587 : decode cL_law 1587 = .ok (.iconst 2, 1) := dk_5 (dk_at dksL_law_58 2 rfl rfl)
theorem dL_law_1588 : decode cL_law 1588 = .ok (.iadd, 1) := dk_96 (dk_at dksL_law_58 3 rfl rfl)
theorem dL_law_1589 : decode cL_law 1589 = .ok (.iaload, 1) := dk_46 (dk_at dksL_law_58 4 rfl rfl)
theorem dL_law_1590 : decode cL_law 1590 = .ok (.invokevirtual 212, 3) := dk_182 0 212 (dk_at dksL_law_58 5 rfl rfl)
theorem dL_law_1593 : decode cL_law 1593 = .ok (.aload_n 2, 1) := dk_44 (dk_at dksL_law_58 8 rfl rfl)
theorem dL_law_1594 : decode cL_law 1594 = .ok (.aload_n 0, 1) := dk_42 (dk_at dksL_law_58 9 rfl rfl)
theorem dL_law_1595 : decode cL_law 1595 = .ok (.iload_n 3, 1) := dk_29 (dk_at dksL_law_58 10 rfl rfl)
theorem dL_law_1596 : decode cL_law 1596 = .ok (.iconst 1, 1) := dk_4 (dk_at dksL_law_58 11 rfl rfl)
theorem dL_law_1597 : decode cL_law 1597 = .ok (.iadd, 1) := dk_96 (dk_at dksL_law_58 12 rfl rfl)
theorem dL_law_1598 : decode cL_law 1598 = .ok (.iaload, 1) := dk_46 (dk_at dksL_law_58 13 rfl rfl)
theorem dL_law_1599 : decode cL_law 1599 = .ok (.aload_n 0, 1) := dk_42 (dk_at dksL_law_58 14 rfl rfl)
theorem dL_law_1600 : decode cL_law 1600 = .ok (.iload_n 3, 1) := dk_29 (dk_at dksL_law_58 15 rfl rfl)
theorem dL_law_1601 : decode cL_law 1601 = .ok (.iconst 2, 1) := dk_5 (dk_at dksL_law_58 16 rfl rfl)
theorem dL_law_1602 : decode cL_law 1602 = .ok (.iadd, 1) := dk_96 (dk_at dksL_law_58 17 rfl rfl)
theorem dL_law_1603 : decode cL_law 1603 = .ok (.iaload, 1) := dk_46 (dk_at dksL_law_58 18 rfl rfl)
theorem dL_law_1604 : decode cL_law 1604 = .ok (.invokevirtual 215, 3) := dk_182 0 215 (dk_at dksL_law_58 19 rfl rfl)
theorem dL_law_1607 : decode cL_law 1607 = .ok (.if_icmp .eq 389, 3) := dk_159 1 133 (dk_at dksL_law_59 0 rfl rfl)
theorem dL_law_1610 : decode cL_law 1610 = .ok (.iconst 0, 1) := dk_3 (dk_at dksL_law_59 3 rfl rfl)
theorem dL_law_1611 : decode cL_law 1611 = .ok (.ireturn, 1) := dk_172 (dk_at dksL_law_59 4 rfl rfl)
theorem dL_law_1612 : decode cL_law 1612 = .ok (.aload_n 1, 1) := dk_43 (dk_at dksL_law_59 5 rfl rfl)
theorem dL_law_1613 : decode cL_law 1613 = .ok (.aload_n 0, 1) := dk_42 (dk_at dksL_law_59 6 rfl rfl)
theorem dL_law_1614 : decode cL_law 1614 = .ok (.iload_n 3, 1) := dk_29 (dk_at dksL_law_59 7 rfl rfl)
theorem dL_law_1615 : decode cL_law 1615 = .ok (.iconst 1, 1) := dk_4 (dk_at dksL_law_59 8 rfl rfl)
theorem dL_law_1616 : decode cL_law 1616 = .ok (.iadd, 1) := dk_96 (dk_at dksL_law_59 9 rfl rfl)
theorem dL_law_1617 : decode cL_law 1617 = .ok (.iaload, 1) := dk_46 (dk_at dksL_law_59 10 rfl rfl)
theorem dL_law_1618 : decode cL_law 1618 = .ok (.invokevirtual 216, 3) := dk_182 0 216 (dk_at dksL_law_59 11 rfl rfl)
theorem dL_law_1621 : decode cL_law 1621 = .ok (.aload_n 2, 1) := dk_44 (dk_at dksL_law_59 14 rfl rfl)
theorem dL_law_1622 : decode cL_law 1622 = .ok (.aload_n 0, 1) := dk_42 (dk_at dksL_law_59 15 rfl rfl)
theorem dL_law_1623 : decode cL_law 1623 = .ok (.iload_n 3, 1) := dk_29 (dk_at dksL_law_59 16 rfl rfl)
theorem dL_law_1624 : decode cL_law 1624 = .ok (.iconst 1, 1) := dk_4 (dk_at dksL_law_59 17 rfl rfl)
theorem dL_law_1625 : decode cL_law 1625 = .ok (.iadd, 1) := dk_96 (dk_at dksL_law_59 18 rfl rfl)
theorem dL_law_1626 : decode cL_law 1626 = .ok (.iaload, 1) := dk_46 (dk_at dksL_law_59 19 rfl rfl)
theorem dL_law_1627 : decode cL_law 1627 = .ok (.invokevirtual 219, 3) := dk_182 0 219 (dk_at dksL_law_59 20 rfl rfl)
theorem dL_law_1630 : decode cL_law 1630 = .ok (.if_icmp .eq 366, 3) := dk_159 1 110 (dk_at dksL_law_60 0 rfl rfl)
theorem dL_law_1633 : decode cL_law 1633 = .ok (.iconst 0, 1) := dk_3 (dk_at dksL_law_60 3 rfl rfl)
theorem dL_law_1634 : decode cL_law 1634 = .ok (.ireturn, 1) := dk_172 (dk_at dksL_law_60 4 rfl rfl)
theorem dL_law_1635 : decode cL_law 1635 = .ok (.aload_n 1, 1) := dk_43 (dk_at dksL_law_60 5 rfl rfl)
theorem dL_law_1636 : decode cL_law 1636 = .ok (.aload_n 0, 1) := dk_42 (dk_at dksL_law_60 6 rfl rfl)
theorem dL_law_1637 : decode cL_law 1637 = .ok (.iload_n 3, 1) := dk_29 (dk_at dksL_law_60 7 rfl rfl)
theorem dL_law_1638 : decode cL_law 1638 = .ok (.iconst 1, 1) := dk_4 (dk_at dksL_law_60 8 rfl rfl)
theorem dL_law_1639 : decode cL_law 1639 = .ok (.iadd, 1) := dk_96 (dk_at dksL_law_60 9 rfl rfl)
theorem dL_law_1640 : decode cL_law 1640 = .ok (.iaload, 1) := dk_46 (dk_at dksL_law_60 10 rfl rfl)
theorem dL_law_1641 : decode cL_law 1641 = .ok (.invokevirtual 220, 3) := dk_182 0 220 (dk_at dksL_law_60 11 rfl rfl)
theorem dL_law_1644 : decode cL_law 1644 = .ok (.aload_n 2, 1) := dk_44 (dk_at dksL_law_60 14 rfl rfl)
theorem dL_law_1645 : decode cL_law 1645 = .ok (.aload_n 0, 1) := dk_42 (dk_at dksL_law_60 15 rfl rfl)
theorem dL_law_1646 : decode cL_law 1646 = .ok (.iload_n 3, 1) := dk_29 (dk_at dksL_law_60 16 rfl rfl)
theorem dL_law_1647 : decode cL_law 1647 = .ok (.iconst 1, 1) := dk_4 (dk_at dksL_law_60 17 rfl rfl)
theorem dL_law_1648 : decode cL_law 1648 = .ok (.iadd, 1) := dk_96 (dk_at dksL_law_60 18 rfl rfl)
theorem dL_law_1649 : decode cL_law 1649 = .ok (.iaload, 1) := dk_46 (dk_at dksL_law_60 19 rfl rfl)
theorem dL_law_1650 : decode cL_law 1650 = .ok (.invokevirtual 223, 3) := dk_182 0 223 (dk_at dksL_law_60 20 rfl rfl)
theorem dL_law_1653 : decode cL_law 1653 = .ok (.if_icmp .eq 343, 3) := dk_159 1 87 (dk_at dksL_law_61 0 rfl rfl)
theorem dL_law_1656 : decode cL_law 1656 = .ok (.iconst 0, 1) := dk_3 (dk_at dksL_law_61 3 rfl rfl)
theorem dL_law_1657 : decode cL_law 1657 = .ok (.ireturn, 1) := dk_172 (dk_at dksL_law_61 4 rfl rfl)
theorem dL_law_1658 : decode cL_law 1658 = .ok (.aload_n 1, 1) := dk_43 (dk_at dksL_law_61 5 rfl rfl)
theorem dL_law_1659 : decode cL_law 1659 = .ok (.aload_n 0, 1) := dk_42 (dk_at dksL_law_61 6 rfl rfl)
theorem dL_law_1660 : decode cL_law 1660 = .ok (.iload_n 3, 1) := dk_29 (dk_at dksL_law_61 7 rfl rfl)
theorem dL_law_1661 : decode cL_law 1661 = .ok (.iconst 1, 1) := dk_4 (dk_at dksL_law_61 8 rfl rfl)
theorem dL_law_1662 : decode cL_law 1662 = .ok (.iadd, 1) := dk_96 (dk_at dksL_law_61 9 rfl rfl)
theorem dL_law_1663 : decode cL_law 1663 = .ok (.iaload, 1) := dk_46 (dk_at dksL_law_61 10 rfl rfl)
theorem dL_law_1664 : decode cL_law 1664 = .ok (.invokevirtual 224, 3) := dk_182 0 224 (dk_at dksL_law_61 11 rfl rfl)
theorem dL_law_1667 : decode cL_law 1667 = .ok (.aload_n 2, 1) := dk_44 (dk_at dksL_law_61 14 rfl rfl)
theorem dL_law_1668 : decode cL_law 1668 = .ok (.aload_n 0, 1) := dk_42 (dk_at dksL_law_61 15 rfl rfl)
theorem dL_law_1669 : decode cL_law 1669 = .ok (.iload_n 3, 1) := dk_29 (dk_at dksL_law_61 16 rfl rfl)
theorem dL_law_1670 : decode cL_law 1670 = .ok (.iconst 1, 1) := dk_4 (dk_at dksL_law_61 17 rfl rfl)
theorem dL_law_1671 : decode cL_law 1671 = .ok (.iadd, 1) := dk_96 (dk_at dksL_law_61 18 rfl rfl)
theorem dL_law_1672 : decode cL_law 1672 = .ok (.iaload, 1) := dk_46 (dk_at dksL_law_61 19 rfl rfl)
theorem dL_law_1673 : decode cL_law 1673 = .ok (.invokevirtual 227, 3) := dk_182 0 227 (dk_at dksL_law_61 20 rfl rfl)
theorem dL_law_1676 : decode cL_law 1676 = .ok (.if_icmp .eq 320, 3) := dk_159 1 64 (dk_at dksL_law_62 0 rfl rfl)
theorem dL_law_1679 : decode cL_law 1679 = .ok (.iconst 0, 1) := dk_3 (dk_at dksL_law_62 3 rfl rfl)
theorem dL_law_1680 : decode cL_law 1680 = .ok (.ireturn, 1) := dk_172 (dk_at dksL_law_62 4 rfl rfl)
theorem dL_law_1681 : decode cL_law 1681 = .ok (.aload_n 1, 1) := dk_43 (dk_at dksL_law_62 5 rfl rfl)
theorem dL_law_1682 : decode cL_law 1682 = .ok (.aload_n 0, 1) := dk_42 (dk_at dksL_law_62 6 rfl rfl)
theorem dL_law_1683 : decode cL_law 1683 = .ok (.iload_n 3, 1) := dk_29 (dk_at dksL_law_62 7 rfl rfl)
theorem dL_law_1684 : decode cL_law 1684 = .ok (.iconst 1, 1) := dk_4 (dk_at dksL_law_62 8 rfl rfl)
theorem dL_law_1685 : decode cL_law 1685 = .ok (.iadd, 1) := dk_96 (dk_at dksL_law_62 9 rfl rfl)
theorem dL_law_1686 : decode cL_law 1686 = .ok (.iaload, 1) := dk_46 (dk_at dksL_law_62 10 rfl rfl)
theorem dL_law_1687 : decode cL_law 1687 = .ok (.invokevirtual 228, 3) := dk_182 0 228 (dk_at dksL_law_62 11 rfl rfl)
theorem dL_law_1690 : decode cL_law 1690 = .ok (.aload_n 2, 1) := dk_44 (dk_at dksL_law_62 14 rfl rfl)
theorem dL_law_1691 : decode cL_law 1691 = .ok (.aload_n 0, 1) := dk_42 (dk_at dksL_law_62 15 rfl rfl)
theorem dL_law_1692 : decode cL_law 1692 = .ok (.iload_n 3, 1) := dk_29 (dk_at dksL_law_62 16 rfl rfl)
theorem dL_law_1693 : decode cL_law 1693 = .ok (.iconst 1, 1) := dk_4 (dk_at dksL_law_62 17 rfl rfl)
theorem dL_law_1694 : decode cL_law 1694 = .ok (.iadd, 1) := dk_96 (dk_at dksL_law_62 18 rfl rfl)
theorem dL_law_1695 : decode cL_law 1695 = .ok (.iaload, 1) := dk_46 (dk_at dksL_law_62 19 rfl rfl)
theorem dL_law_1696 : decode cL_law 1696 = .ok (.invokevirtual 231, 3) := dk_182 0 231 (dk_at dksL_law_62 20 rfl rfl)
theorem dL_law_1699 : decode cL_law 1699 = .ok (.if_icmp .eq 297, 3) := dk_159 1 41 (dk_at dksL_law_63 0 rfl rfl)
theorem dL_law_1702 : decode cL_law 1702 = .ok (.iconst 0, 1) := dk_3 (dk_at dksL_law_63 3 rfl rfl)
theorem dL_law_1703 : decode cL_law 1703 = .ok (.ireturn, 1) := dk_172 (dk_at dksL_law_63 4 rfl rfl)
theorem dL_law_1704 : decode cL_law 1704 = .ok (.aload_n 1, 1) := dk_43 (dk_at dksL_law_63 5 rfl rfl)
theorem dL_law_1705 : decode cL_law 1705 = .ok (.aload_n 0, 1) := dk_42 (dk_at dksL_law_63 6 rfl rfl)
theorem dL_law_1706 : decode cL_law 1706 = .ok (.iload_n 3, 1) := dk_29 (dk_at dksL_law_63 7 rfl rfl)
theorem dL_law_1707 : decode cL_law 1707 = .ok (.iconst 1, 1) := dk_4 (dk_at dksL_law_63 8 rfl rfl)
theorem dL_law_1708 : decode cL_law 1708 = .ok (.iadd, 1) := dk_96 (dk_at dksL_law_63 9 rfl rfl)
theorem dL_law_1709 : decode cL_law 1709 = .ok (.iaload, 1) := dk_46 (dk_at dksL_law_63 10 rfl rfl)
theorem dL_law_1710 : decode cL_law 1710 = .ok (.aload_n 0, 1) := dk_42 (dk_at dksL_law_63 11 rfl rfl)
theorem dL_law_1711 : decode cL_law 1711 = .ok (.iload_n 3, 1) := dk_29 (dk_at dksL_law_63 12 rfl rfl)
theorem dL_law_1712 : decode cL_law 1712 = .ok (.iconst 2, 1) := dk_5 (dk_at dksL_law_63 13 rfl rfl)
theorem dL_law_1713 : decode cL_law 1713 = .ok (.iadd, 1) := dk_96 (dk_at dksL_law_63 14 rfl rfl)
theorem dL_law_1714 : decode cL_law 1714 = .ok (.iaload, 1) := dk_46 (dk_at dksL_law_63 15 rfl rfl)
theorem dL_law_1715 : decode cL_law 1715 = .ok (.aload_n 0, 1) := dk_42 (dk_at dksL_law_63 16 rfl rfl)
theorem dL_law_1716 : decode cL_law 1716 = .ok (.iload_n 3, 1) := dk_29 (dk_at dksL_law_63 17 rfl rfl)
theorem dL_law_1717 : decode cL_law 1717 = .ok (.iconst 3, 1) := dk_6 (dk_at dksL_law_63 18 rfl rfl)
theorem dL_law_1718 : decode cL_law 1718 = .ok (.iadd, 1) := dk_96 (dk_at dksL_law_63 19 rfl rfl)
theorem dL_law_1719 : decode cL_law 1719 = .ok (.iaload, 1) := dk_46 (dk_at dksL_law_63 20 rfl rfl)
theorem dL_law_1720 : decode cL_law 1720 = .ok (.invokevirtual 232, 3) := dk_182 0 232 (dk_at dksL_law_63 21 rfl rfl)
theorem dL_law_1723 : decode cL_law 1723 = .ok (.aload_n 2, 1) := dk_44 (dk_at dksL_law_64 0 rfl rfl)
theorem dL_law_1724 : decode cL_law 1724 = .ok (.aload_n 0, 1) := dk_42 (dk_at dksL_law_64 1 rfl rfl)
theorem dL_law_1725 : decode cL_law 1725 = .ok (.iload_n 3, 1) := dk_29 (dk_at dksL_law_64 2 rfl rfl)
theorem dL_law_1726 : decode cL_law 1726 = .ok (.iconst 1, 1) := dk_4 (dk_at dksL_law_64 3 rfl rfl)
theorem dL_law_1727 : decode cL_law 1727 = .ok (.iadd, 1) := dk_96 (dk_at dksL_law_64 4 rfl rfl)
theorem dL_law_1728 : decode cL_law 1728 = .ok (.iaload, 1) := dk_46 (dk_at dksL_law_64 5 rfl rfl)
theorem dL_law_1729 : decode cL_law 1729 = .ok (.aload_n 0, 1) := dk_42 (dk_at dksL_law_64 6 rfl rfl)
theorem dL_law_1730 : decode cL_law 1730 = .ok (.iload_n 3, 1) := dk_29 (dk_at dksL_law_64 7 rfl rfl)
theorem dL_law_1731 : decode cL_law 1731 = .ok (.iconst 2, 1) := dk_5 (dk_at dksL_law_64 8 rfl rfl)
theorem dL_law_1732 : decode cL_law 1732 = .ok (.iadd, 1) := dk_96 (dk_at dksL_law_64 9 rfl rfl)
theorem dL_law_1733 : decode cL_law 1733 = .ok (.iaload, 1) := dk_46 (dk_at dksL_law_64 10 rfl rfl)
theorem dL_law_1734 : decode cL_law 1734 = .ok (.aload_n 0, 1) := dk_42 (dk_at dksL_law_64 11 rfl rfl)
theorem dL_law_1735 : decode cL_law 1735 = .ok (.iload_n 3, 1) := dk_29 (dk_at dksL_law_64 12 rfl rfl)
theorem dL_law_1736 : decode cL_law 1736 = .ok (.iconst 3, 1) := dk_6 (dk_at dksL_law_64 13 rfl rfl)
theorem dL_law_1737 : decode cL_law 1737 = .ok (.iadd, 1) := dk_96 (dk_at dksL_law_64 14 rfl rfl)
theorem dL_law_1738 : decode cL_law 1738 = .ok (.iaload, 1) := dk_46 (dk_at dksL_law_64 15 rfl rfl)
theorem dL_law_1739 : decode cL_law 1739 = .ok (.invokevirtual 235, 3) := dk_182 0 235 (dk_at dksL_law_64 16 rfl rfl)
theorem dL_law_1742 : decode cL_law 1742 = .ok (.lcmp, 1) := dk_148 (dk_at dksL_law_64 19 rfl rfl)
theorem dL_law_1743 : decode cL_law 1743 = .ok (.ifCond .eq 253, 3) := dk_153 0 253 (dk_at dksL_law_64 20 rfl rfl)
theorem dL_law_1746 : decode cL_law 1746 = .ok (.iconst 0, 1) := dk_3 (dk_at dksL_law_64 23 rfl rfl)
theorem dL_law_1747 : decode cL_law 1747 = .ok (.ireturn, 1) := dk_172 (dk_at dksL_law_65 0 rfl rfl)
theorem dL_law_1748 : decode cL_law 1748 = .ok (.aload_n 1, 1) := dk_43 (dk_at dksL_law_65 1 rfl rfl)
theorem dL_law_1749 : decode cL_law 1749 = .ok (.aload_n 0, 1) := dk_42 (dk_at dksL_law_65 2 rfl rfl)
theorem dL_law_1750 : decode cL_law 1750 = .ok (.iload_n 3, 1) := dk_29 (dk_at dksL_law_65 3 rfl rfl)
theorem dL_law_1751 : decode cL_law 1751 = .ok (.iconst 1, 1) := dk_4 (dk_at dksL_law_65 4 rfl rfl)
theorem dL_law_1752 : decode cL_law 1752 = .ok (.iadd, 1) := dk_96 (dk_at dksL_law_65 5 rfl rfl)
theorem dL_law_1753 : decode cL_law 1753 = .ok (.iaload, 1) := dk_46 (dk_at dksL_law_65 6 rfl rfl)
theorem dL_law_1754 : decode cL_law 1754 = .ok (.invokevirtual 236, 3) := dk_182 0 236 (dk_at dksL_law_65 7 rfl rfl)
theorem dL_law_1757 : decode cL_law 1757 = .ok (.aload_n 2, 1) := dk_44 (dk_at dksL_law_65 10 rfl rfl)
theorem dL_law_1758 : decode cL_law 1758 = .ok (.aload_n 0, 1) := dk_42 (dk_at dksL_law_65 11 rfl rfl)
theorem dL_law_1759 : decode cL_law 1759 = .ok (.iload_n 3, 1) := dk_29 (dk_at dksL_law_65 12 rfl rfl)
theorem dL_law_1760 : decode cL_law 1760 = .ok (.iconst 1, 1) := dk_4 (dk_at dksL_law_65 13 rfl rfl)
theorem dL_law_1761 : decode cL_law 1761 = .ok (.iadd, 1) := dk_96 (dk_at dksL_law_65 14 rfl rfl)
theorem dL_law_1762 : decode cL_law 1762 = .ok (.iaload, 1) := dk_46 (dk_at dksL_law_65 15 rfl rfl)
theorem dL_law_1763 : decode cL_law 1763 = .ok (.invokevirtual 239, 3) := dk_182 0 239 (dk_at dksL_law_65 16 rfl rfl)
theorem dL_law_1766 : decode cL_law 1766 = .ok (.if_icmp .eq 230, 3) := dk_159 0 230 (dk_at dksL_law_65 19 rfl rfl)
theorem dL_law_1769 : decode cL_law 1769 = .ok (.iconst 0, 1) := dk_3 (dk_at dksL_law_65 22 rfl rfl)
theorem dL_law_1770 : decode cL_law 1770 = .ok (.ireturn, 1) := dk_172 (dk_at dksL_law_65 23 rfl rfl)
theorem dL_law_1771 : decode cL_law 1771 = .ok (.aload_n 1, 1) := dk_43 (dk_at dksL_law_66 0 rfl rfl)
theorem dL_law_1772 : decode cL_law 1772 = .ok (.aload_n 0, 1) := dk_42 (dk_at dksL_law_66 1 rfl rfl)
theorem dL_law_1773 : decode cL_law 1773 = .ok (.iload_n 3, 1) := dk_29 (dk_at dksL_law_66 2 rfl rfl)
theorem dL_law_1774 : decode cL_law 1774 = .ok (.iconst 1, 1) := dk_4 (dk_at dksL_law_66 3 rfl rfl)
theorem dL_law_1775 : decode cL_law 1775 = .ok (.iadd, 1) := dk_96 (dk_at dksL_law_66 4 rfl rfl)
theorem dL_law_1776 : decode cL_law 1776 = .ok (.iaload, 1) := dk_46 (dk_at dksL_law_66 5 rfl rfl)
theorem dL_law_1777 : decode cL_law 1777 = .ok (.invokevirtual 240, 3) := dk_182 0 240 (dk_at dksL_law_66 6 rfl rfl)
theorem dL_law_1780 : decode cL_law 1780 = .ok (.aload_n 2, 1) := dk_44 (dk_at dksL_law_66 9 rfl rfl)
theorem dL_law_1781 : decode cL_law 1781 = .ok (.aload_n 0, 1) := dk_42 (dk_at dksL_law_66 10 rfl rfl)
theorem dL_law_1782 : decode cL_law 1782 = .ok (.iload_n 3, 1) := dk_29 (dk_at dksL_law_66 11 rfl rfl)
theorem dL_law_1783 : decode cL_law 1783 = .ok (.iconst 1, 1) := dk_4 (dk_at dksL_law_66 12 rfl rfl)
theorem dL_law_1784 : decode cL_law 1784 = .ok (.iadd, 1) := dk_96 (dk_at dksL_law_66 13 rfl rfl)
theorem dL_law_1785 : decode cL_law 1785 = .ok (.iaload, 1) := dk_46 (dk_at dksL_law_66 14 rfl rfl)
theorem dL_law_1786 : decode cL_law 1786 = .ok (.invokevirtual 243, 3) := dk_182 0 243 (dk_at dksL_law_66 15 rfl rfl)
theorem dL_law_1789 : decode cL_law 1789 = .ok (.if_icmp .eq 207, 3) := dk_159 0 207 (dk_at dksL_law_66 18 rfl rfl)
theorem dL_law_1792 : decode cL_law 1792 = .ok (.iconst 0, 1) := dk_3 (dk_at dksL_law_66 21 rfl rfl)
theorem dL_law_1793 : decode cL_law 1793 = .ok (.ireturn, 1) := dk_172 (dk_at dksL_law_66 22 rfl rfl)
theorem dL_law_1794 : decode cL_law 1794 = .ok (.aload_n 1, 1) := dk_43 (dk_at dksL_law_66 23 rfl rfl)
theorem dL_law_1795 : decode cL_law 1795 = .ok (.aload_n 0, 1) := dk_42 (dk_at dksL_law_67 0 rfl rfl)
theorem dL_law_1796 : decode cL_law 1796 = .ok (.iload_n 3, 1) := dk_29 (dk_at dksL_law_67 1 rfl rfl)
theorem dL_law_1797 : decode cL_law 1797 = .ok (.iconst 1, 1) := dk_4 (dk_at dksL_law_67 2 rfl rfl)
theorem dL_law_1798 : decode cL_law 1798 = .ok (.iadd, 1) := dk_96 (dk_at dksL_law_67 3 rfl rfl)
theorem dL_law_1799 : decode cL_law 1799 = .ok (.iaload, 1) := dk_46 (dk_at dksL_law_67 4 rfl rfl)
theorem dL_law_1800 : decode cL_law 1800 = .ok (.invokevirtual 244, 3) := dk_182 0 244 (dk_at dksL_law_67 5 rfl rfl)
theorem dL_law_1803 : decode cL_law 1803 = .ok (.aload_n 2, 1) := dk_44 (dk_at dksL_law_67 8 rfl rfl)
theorem dL_law_1804 : decode cL_law 1804 = .ok (.aload_n 0, 1) := dk_42 (dk_at dksL_law_67 9 rfl rfl)
theorem dL_law_1805 : decode cL_law 1805 = .ok (.iload_n 3, 1) := dk_29 (dk_at dksL_law_67 10 rfl rfl)
theorem dL_law_1806 : decode cL_law 1806 = .ok (.iconst 1, 1) := dk_4 (dk_at dksL_law_67 11 rfl rfl)
theorem dL_law_1807 : decode cL_law 1807 = .ok (.iadd, 1) := dk_96 (dk_at dksL_law_67 12 rfl rfl)
theorem dL_law_1808 : decode cL_law 1808 = .ok (.iaload, 1) := dk_46 (dk_at dksL_law_67 13 rfl rfl)
theorem dL_law_1809 : decode cL_law 1809 = .ok (.invokevirtual 247, 3) := dk_182 0 247 (dk_at dksL_law_67 14 rfl rfl)
theorem dL_law_1812 : decode cL_law 1812 = .ok (.if_icmp .eq 184, 3) := dk_159 0 184 (dk_at dksL_law_67 17 rfl rfl)
theorem dL_law_1815 : decode cL_law 1815 = .ok (.iconst 0, 1) := dk_3 (dk_at dksL_law_67 20 rfl rfl)
theorem dL_law_1816 : decode cL_law 1816 = .ok (.ireturn, 1) := dk_172 (dk_at dksL_law_67 21 rfl rfl)
theorem dL_law_1817 : decode cL_law 1817 = .ok (.aload_n 1, 1) := dk_43 (dk_at dksL_law_67 22 rfl rfl)
theorem dL_law_1818 : decode cL_law 1818 = .ok (.aload_n 0, 1) := dk_42 (dk_at dksL_law_67 23 rfl rfl)
theorem dL_law_1819 : decode cL_law 1819 = .ok (.iload_n 3, 1) := dk_29 (dk_at dksL_law_68 0 rfl rfl)
theorem dL_law_1820 : decode cL_law 1820 = .ok (.iconst 1, 1) := dk_4 (dk_at dksL_law_68 1 rfl rfl)
theorem dL_law_1821 : decode cL_law 1821 = .ok (.iadd, 1) := dk_96 (dk_at dksL_law_68 2 rfl rfl)
theorem dL_law_1822 : decode cL_law 1822 = .ok (.iaload, 1) := dk_46 (dk_at dksL_law_68 3 rfl rfl)
theorem dL_law_1823 : decode cL_law 1823 = .ok (.aload_n 0, 1) := dk_42 (dk_at dksL_law_68 4 rfl rfl)
theorem dL_law_1824 : decode cL_law 1824 = .ok (.iload_n 3, 1) := dk_29 (dk_at dksL_law_68 5 rfl rfl)
theorem dL_law_1825 : decode cL_law 1825 = .ok (.iconst 2, 1) := dk_5 (dk_at dksL_law_68 6 rfl rfl)
theorem dL_law_1826 : decode cL_law 1826 = .ok (.iadd, 1) := dk_96 (dk_at dksL_law_68 7 rfl rfl)
theorem dL_law_1827 : decode cL_law 1827 = .ok (.iaload, 1) := dk_46 (dk_at dksL_law_68 8 rfl rfl)
theorem dL_law_1828 : decode cL_law 1828 = .ok (.aload_n 0, 1) := dk_42 (dk_at dksL_law_68 9 rfl rfl)
theorem dL_law_1829 : decode cL_law 1829 = .ok (.iload_n 3, 1) := dk_29 (dk_at dksL_law_68 10 rfl rfl)
theorem dL_law_1830 : decode cL_law 1830 = .ok (.iconst 3, 1) := dk_6 (dk_at dksL_law_68 11 rfl rfl)
theorem dL_law_1831 : decode cL_law 1831 = .ok (.iadd, 1) := dk_96 (dk_at dksL_law_68 12 rfl rfl)
theorem dL_law_1832 : decode cL_law 1832 = .ok (.iaload, 1) := dk_46 (dk_at dksL_law_68 13 rfl rfl)
theorem dL_law_1833 : decode cL_law 1833 = .ok (.invokevirtual 248, 3) := dk_182 0 248 (dk_at dksL_law_68 14 rfl rfl)
theorem dL_law_1836 : decode cL_law 1836 = .ok (.aload_n 2, 1) := dk_44 (dk_at dksL_law_68 17 rfl rfl)
theorem dL_law_1837 : decode cL_law 1837 = .ok (.aload_n 0, 1) := dk_42 (dk_at dksL_law_68 18 rfl rfl)
theorem dL_law_1838 : decode cL_law 1838 = .ok (.iload_n 3, 1) := dk_29 (dk_at dksL_law_68 19 rfl rfl)
theorem dL_law_1839 : decode cL_law 1839 = .ok (.iconst 1, 1) := dk_4 (dk_at dksL_law_68 20 rfl rfl)
theorem dL_law_1840 : decode cL_law 1840 = .ok (.iadd, 1) := dk_96 (dk_at dksL_law_68 21 rfl rfl)
theorem dL_law_1841 : decode cL_law 1841 = .ok (.iaload, 1) := dk_46 (dk_at dksL_law_68 22 rfl rfl)
theorem dL_law_1842 : decode cL_law 1842 = .ok (.aload_n 0, 1) := dk_42 (dk_at dksL_law_68 23 rfl rfl)
theorem dL_law_1843 : decode cL_law 1843 = .ok (.iload_n 3, 1) := dk_29 (dk_at dksL_law_69 0 rfl rfl)
theorem dL_law_1844 : decode cL_law 1844 = .ok (.iconst 2, 1) := dk_5 (dk_at dksL_law_69 1 rfl rfl)
theorem dL_law_1845 : decode cL_law 1845 = .ok (.iadd, 1) := dk_96 (dk_at dksL_law_69 2 rfl rfl)
theorem dL_law_1846 : decode cL_law 1846 = .ok (.iaload, 1) := dk_46 (dk_at dksL_law_69 3 rfl rfl)
theorem dL_law_1847 : decode cL_law 1847 = .ok (.aload_n 0, 1) := dk_42 (dk_at dksL_law_69 4 rfl rfl)
theorem dL_law_1848 : decode cL_law 1848 = .ok (.iload_n 3, 1) := dk_29 (dk_at dksL_law_69 5 rfl rfl)
theorem dL_law_1849 : decode cL_law 1849 = .ok (.iconst 3, 1) := dk_6 (dk_at dksL_law_69 6 rfl rfl)
theorem dL_law_1850 : decode cL_law 1850 = .ok (.iadd, 1) := dk_96 (dk_at dksL_law_69 7 rfl rfl)
theorem dL_law_1851 : decode cL_law 1851 = .ok (.iaload, 1) := dk_46 (dk_at dksL_law_69 8 rfl rfl)
theorem dL_law_1852 : decode cL_law 1852 = .ok (.invokevirtual 251, 3) := dk_182 0 251 (dk_at dksL_law_69 9 rfl rfl)
theorem dL_law_1855 : decode cL_law 1855 = .ok (.if_icmp .eq 141, 3) := dk_159 0 141 (dk_at dksL_law_69 12 rfl rfl)
theorem dL_law_1858 : decode cL_law 1858 = .ok (.iconst 0, 1) := dk_3 (dk_at dksL_law_69 15 rfl rfl)
theorem dL_law_1859 : decode cL_law 1859 = .ok (.ireturn, 1) := dk_172 (dk_at dksL_law_69 16 rfl rfl)
theorem dL_law_1860 : decode cL_law 1860 = .ok (.aload_n 1, 1) := dk_43 (dk_at dksL_law_69 17 rfl rfl)
theorem dL_law_1861 : decode cL_law 1861 = .ok (.aload_n 0, 1) := dk_42 (dk_at dksL_law_69 18 rfl rfl)
theorem dL_law_1862 : decode cL_law 1862 = .ok (.iload_n 3, 1) := dk_29 (dk_at dksL_law_69 19 rfl rfl)
theorem dL_law_1863 : decode cL_law 1863 = .ok (.iconst 1, 1) := dk_4 (dk_at dksL_law_69 20 rfl rfl)
theorem dL_law_1864 : decode cL_law 1864 = .ok (.iadd, 1) := dk_96 (dk_at dksL_law_69 21 rfl rfl)
theorem dL_law_1865 : decode cL_law 1865 = .ok (.iaload, 1) := dk_46 (dk_at dksL_law_69 22 rfl rfl)
theorem dL_law_1866 : decode cL_law 1866 = .ok (.aload_n 0, 1) := dk_42 (dk_at dksL_law_69 23 rfl rfl)
theorem dL_law_1867 : decode cL_law 1867 = .ok (.iload_n 3, 1) := dk_29 (dk_at dksL_law_70 0 rfl rfl)
theorem dL_law_1868 : decode cL_law 1868 = .ok (.iconst 2, 1) := dk_5 (dk_at dksL_law_70 1 rfl rfl)
theorem dL_law_1869 : decode cL_law 1869 = .ok (.iadd, 1) := dk_96 (dk_at dksL_law_70 2 rfl rfl)
theorem dL_law_1870 : decode cL_law 1870 = .ok (.iaload, 1) := dk_46 (dk_at dksL_law_70 3 rfl rfl)
theorem dL_law_1871 : decode cL_law 1871 = .ok (.aload_n 0, 1) := dk_42 (dk_at dksL_law_70 4 rfl rfl)
theorem dL_law_1872 : decode cL_law 1872 = .ok (.iload_n 3, 1) := dk_29 (dk_at dksL_law_70 5 rfl rfl)
theorem dL_law_1873 : decode cL_law 1873 = .ok (.iconst 3, 1) := dk_6 (dk_at dksL_law_70 6 rfl rfl)
theorem dL_law_1874 : decode cL_law 1874 = .ok (.iadd, 1) := dk_96 (dk_at dksL_law_70 7 rfl rfl)
theorem dL_law_1875 : decode cL_law 1875 = .ok (.iaload, 1) := dk_46 (dk_at dksL_law_70 8 rfl rfl)
theorem dL_law_1876 : decode cL_law 1876 = .ok (.i2l, 1) := dk_133 (dk_at dksL_law_70 9 rfl rfl)
theorem dL_law_1877 : decode cL_law 1877 = .ok (.bipush 32, 2) := dk_16 32 (dk_at dksL_law_70 10 rfl rfl)
theorem dL_law_1879 : decode cL_law 1879 = .ok (.lshl, 1) := dk_121 (dk_at dksL_law_70 12 rfl rfl)
theorem dL_law_1880 : decode cL_law 1880 = .ok (.aload_n 0, 1) := dk_42 (dk_at dksL_law_70 13 rfl rfl)
theorem dL_law_1881 : decode cL_law 1881 = .ok (.iload_n 3, 1) := dk_29 (dk_at dksL_law_70 14 rfl rfl)
theorem dL_law_1882 : decode cL_law 1882 = .ok (.iconst 4, 1) := dk_7 (dk_at dksL_law_70 15 rfl rfl)
theorem dL_law_1883 : decode cL_law 1883 = .ok (.iadd, 1) := dk_96 (dk_at dksL_law_70 16 rfl rfl)
theorem dL_law_1884 : decode cL_law 1884 = .ok (.iaload, 1) := dk_46 (dk_at dksL_law_70 17 rfl rfl)
theorem dL_law_1885 : decode cL_law 1885 = .ok (.i2l, 1) := dk_133 (dk_at dksL_law_70 18 rfl rfl)
theorem dL_law_1886 : decode cL_law 1886 = .ok (.ldc2_w 252, 3) := dk_20 0 252 (dk_at dksL_law_70 19 rfl rfl)
theorem dL_law_1889 : decode cL_law 1889 = .ok (.land, 1) := dk_127 (dk_at dksL_law_70 22 rfl rfl)
theorem dL_law_1890 : decode cL_law 1890 = .ok (.lor, 1) := dk_129 (dk_at dksL_law_70 23 rfl rfl)
theorem dL_law_1891 : decode cL_law 1891 = .ok (.invokevirtual 254, 3) := dk_182 0 254 (dk_at dksL_law_71 0 rfl rfl)
theorem dL_law_1894 : decode cL_law 1894 = .ok (.aload_n 2, 1) := dk_44 (dk_at dksL_law_71 3 rfl rfl)
theorem dL_law_1895 : decode cL_law 1895 = .ok (.aload_n 0, 1) := dk_42 (dk_at dksL_law_71 4 rfl rfl)
theorem dL_law_1896 : decode cL_law 1896 = .ok (.iload_n 3, 1) := dk_29 (dk_at dksL_law_71 5 rfl rfl)
theorem dL_law_1897 : decode cL_law 1897 = .ok (.iconst 1, 1) := dk_4 (dk_at dksL_law_71 6 rfl rfl)
theorem dL_law_1898 : decode cL_law 1898 = .ok (.iadd, 1) := dk_96 (dk_at dksL_law_71 7 rfl rfl)
theorem dL_law_1899 : decode cL_law 1899 = .ok (.iaload, 1) := dk_46 (dk_at dksL_law_71 8 rfl rfl)
theorem dL_law_1900 : decode cL_law 1900 = .ok (.aload_n 0, 1) := dk_42 (dk_at dksL_law_71 9 rfl rfl)
theorem dL_law_1901 : decode cL_law 1901 = .ok (.iload_n 3, 1) := dk_29 (dk_at dksL_law_71 10 rfl rfl)
theorem dL_law_1902 : decode cL_law 1902 = .ok (.iconst 2, 1) := dk_5 (dk_at dksL_law_71 11 rfl rfl)
theorem dL_law_1903 : decode cL_law 1903 = .ok (.iadd, 1) := dk_96 (dk_at dksL_law_71 12 rfl rfl)
theorem dL_law_1904 : decode cL_law 1904 = .ok (.iaload, 1) := dk_46 (dk_at dksL_law_71 13 rfl rfl)
theorem dL_law_1905 : decode cL_law 1905 = .ok (.aload_n 0, 1) := dk_42 (dk_at dksL_law_71 14 rfl rfl)
theorem dL_law_1906 : decode cL_law 1906 = .ok (.iload_n 3, 1) := dk_29 (dk_at dksL_law_71 15 rfl rfl)
theorem dL_law_1907 : decode cL_law 1907 = .ok (.iconst 3, 1) := dk_6 (dk_at dksL_law_71 16 rfl rfl)
theorem dL_law_1908 : decode cL_law 1908 = .ok (.iadd, 1) := dk_96 (dk_at dksL_law_71 17 rfl rfl)
theorem dL_law_1909 : decode cL_law 1909 = .ok (.iaload, 1) := dk_46 (dk_at dksL_law_71 18 rfl rfl)
theorem dL_law_1910 : decode cL_law 1910 = .ok (.i2l, 1) := dk_133 (dk_at dksL_law_71 19 rfl rfl)
theorem dL_law_1911 : decode cL_law 1911 = .ok (.bipush 32, 2) := dk_16 32 (dk_at dksL_law_71 20 rfl rfl)
theorem dL_law_1913 : decode cL_law 1913 = .ok (.lshl, 1) := dk_121 (dk_at dksL_law_71 22 rfl rfl)
theorem dL_law_1914 : decode cL_law 1914 = .ok (.aload_n 0, 1) := dk_42 (dk_at dksL_law_71 23 rfl rfl)
theorem dL_law_1915 : decode cL_law 1915 = .ok (.iload_n 3, 1) := dk_29 (dk_at dksL_law_72 0 rfl rfl)
theorem dL_law_1916 : decode cL_law 1916 = .ok (.iconst 4, 1) := dk_7 (dk_at dksL_law_72 1 rfl rfl)
theorem dL_law_1917 : decode cL_law 1917 = .ok (.iadd, 1) := dk_96 (dk_at dksL_law_72 2 rfl rfl)
theorem dL_law_1918 : decode cL_law 1918 = .ok (.iaload, 1) := dk_46 (dk_at dksL_law_72 3 rfl rfl)
theorem dL_law_1919 : decode cL_law 1919 = .ok (.i2l, 1) := dk_133 (dk_at dksL_law_72 4 rfl rfl)
theorem dL_law_1920 : decode cL_law 1920 = .ok (.ldc2_w 252, 3) := dk_20 0 252 (dk_at dksL_law_72 5 rfl rfl)
theorem dL_law_1923 : decode cL_law 1923 = .ok (.land, 1) := dk_127 (dk_at dksL_law_72 8 rfl rfl)
theorem dL_law_1924 : decode cL_law 1924 = .ok (.lor, 1) := dk_129 (dk_at dksL_law_72 9 rfl rfl)
theorem dL_law_1925 : decode cL_law 1925 = .ok (.invokevirtual 258, 3) := dk_182 1 2 (dk_at dksL_law_72 10 rfl rfl)
theorem dL_law_1928 : decode cL_law 1928 = .ok (.if_icmp .eq 68, 3) := dk_159 0 68 (dk_at dksL_law_72 13 rfl rfl)
theorem dL_law_1931 : decode cL_law 1931 = .ok (.iconst 0, 1) := dk_3 (dk_at dksL_law_72 16 rfl rfl)
theorem dL_law_1932 : decode cL_law 1932 = .ok (.ireturn, 1) := dk_172 (dk_at dksL_law_72 17 rfl rfl)
theorem dL_law_1933 : decode cL_law 1933 = .ok (.aload_n 1, 1) := dk_43 (dk_at dksL_law_72 18 rfl rfl)
theorem dL_law_1934 : decode cL_law 1934 = .ok (.aload_n 0, 1) := dk_42 (dk_at dksL_law_72 19 rfl rfl)
theorem dL_law_1935 : decode cL_law 1935 = .ok (.iload_n 3, 1) := dk_29 (dk_at dksL_law_72 20 rfl rfl)
theorem dL_law_1936 : decode cL_law 1936 = .ok (.iconst 1, 1) := dk_4 (dk_at dksL_law_72 21 rfl rfl)
theorem dL_law_1937 : decode cL_law 1937 = .ok (.iadd, 1) := dk_96 (dk_at dksL_law_72 22 rfl rfl)
theorem dL_law_1938 : decode cL_law 1938 = .ok (.iaload, 1) := dk_46 (dk_at dksL_law_72 23 rfl rfl)
theorem dL_law_1939 : decode cL_law 1939 = .ok (.aload_n 0, 1) := dk_42 (dk_at dksL_law_73 0 rfl rfl)
theorem dL_law_1940 : decode cL_law 1940 = .ok (.iload_n 3, 1) := dk_29 (dk_at dksL_law_73 1 rfl rfl)
theorem dL_law_1941 : decode cL_law 1941 = .ok (.iconst 2, 1) := dk_5 (dk_at dksL_law_73 2 rfl rfl)
theorem dL_law_1942 : decode cL_law 1942 = .ok (.iadd, 1) := dk_96 (dk_at dksL_law_73 3 rfl rfl)
theorem dL_law_1943 : decode cL_law 1943 = .ok (.iaload, 1) := dk_46 (dk_at dksL_law_73 4 rfl rfl)
theorem dL_law_1944 : decode cL_law 1944 = .ok (.aload_n 0, 1) := dk_42 (dk_at dksL_law_73 5 rfl rfl)
theorem dL_law_1945 : decode cL_law 1945 = .ok (.iload_n 3, 1) := dk_29 (dk_at dksL_law_73 6 rfl rfl)
theorem dL_law_1946 : decode cL_law 1946 = .ok (.iconst 3, 1) := dk_6 (dk_at dksL_law_73 7 rfl rfl)
theorem dL_law_1947 : decode cL_law 1947 = .ok (.iadd, 1) := dk_96 (dk_at dksL_law_73 8 rfl rfl)
theorem dL_law_1948 : decode cL_law 1948 = .ok (.iaload, 1) := dk_46 (dk_at dksL_law_73 9 rfl rfl)
theorem dL_law_1949 : decode cL_law 1949 = .ok (.aload_n 0, 1) := dk_42 (dk_at dksL_law_73 10 rfl rfl)
theorem dL_law_1950 : decode cL_law 1950 = .ok (.iload_n 3, 1) := dk_29 (dk_at dksL_law_73 11 rfl rfl)
theorem dL_law_1951 : decode cL_law 1951 = .ok (.iconst 4, 1) := dk_7 (dk_at dksL_law_73 12 rfl rfl)
theorem dL_law_1952 : decode cL_law 1952 = .ok (.iadd, 1) := dk_96 (dk_at dksL_law_73 13 rfl rfl)
theorem dL_law_1953 : decode cL_law 1953 = .ok (.iaload, 1) := dk_46 (dk_at dksL_law_73 14 rfl rfl)
theorem dL_law_1954 : decode cL_law 1954 = .ok (.aload_n 0, 1) := dk_42 (dk_at dksL_law_73 15 rfl rfl)
theorem dL_law_1955 : decode cL_law 1955 = .ok (.iload_n 3, 1) := dk_29 (dk_at dksL_law_73 16 rfl rfl)
theorem dL_law_1956 : decode cL_law 1956 = .ok (.iconst 5, 1) := dk_8 (dk_at dksL_law_73 17 rfl rfl)
theorem dL_law_1957 : decode cL_law 1957 = .ok (.iadd, 1) := dk_96 (dk_at dksL_law_73 18 rfl rfl)
theorem dL_law_1958 : decode cL_law 1958 = .ok (.iaload, 1) := dk_46 (dk_at dksL_law_73 19 rfl rfl)
theorem dL_law_1959 : decode cL_law 1959 = .ok (.invokevirtual 259, 3) := dk_182 1 3 (dk_at dksL_law_73 20 rfl rfl)
theorem dL_law_1962 : decode cL_law 1962 = .ok (.aload_n 2, 1) := dk_44 (dk_at dksL_law_73 23 rfl rfl)
theorem dL_law_1963 : decode cL_law 1963 = .ok (.aload_n 0, 1) := dk_42 (dk_at dksL_law_74 0 rfl rfl)
theorem dL_law_1964 : decode cL_law 1964 = .ok (.iload_n 3, 1) := dk_29 (dk_at dksL_law_74 1 rfl rfl)
theorem dL_law_1965 : decode cL_law 1965 = .ok (.iconst 1, 1) := dk_4 (dk_at dksL_law_74 2 rfl rfl)
theorem dL_law_1966 : decode cL_law 1966 = .ok (.iadd, 1) := dk_96 (dk_at dksL_law_74 3 rfl rfl)
theorem dL_law_1967 : decode cL_law 1967 = .ok (.iaload, 1) := dk_46 (dk_at dksL_law_74 4 rfl rfl)
theorem dL_law_1968 : decode cL_law 1968 = .ok (.aload_n 0, 1) := dk_42 (dk_at dksL_law_74 5 rfl rfl)
theorem dL_law_1969 : decode cL_law 1969 = .ok (.iload_n 3, 1) := dk_29 (dk_at dksL_law_74 6 rfl rfl)
theorem dL_law_1970 : decode cL_law 1970 = .ok (.iconst 2, 1) := dk_5 (dk_at dksL_law_74 7 rfl rfl)
theorem dL_law_1971 : decode cL_law 1971 = .ok (.iadd, 1) := dk_96 (dk_at dksL_law_74 8 rfl rfl)
theorem dL_law_1972 : decode cL_law 1972 = .ok (.iaload, 1) := dk_46 (dk_at dksL_law_74 9 rfl rfl)
theorem dL_law_1973 : decode cL_law 1973 = .ok (.aload_n 0, 1) := dk_42 (dk_at dksL_law_74 10 rfl rfl)
theorem dL_law_1974 : decode cL_law 1974 = .ok (.iload_n 3, 1) := dk_29 (dk_at dksL_law_74 11 rfl rfl)
theorem dL_law_1975 : decode cL_law 1975 = .ok (.iconst 3, 1) := dk_6 (dk_at dksL_law_74 12 rfl rfl)
theorem dL_law_1976 : decode cL_law 1976 = .ok (.iadd, 1) := dk_96 (dk_at dksL_law_74 13 rfl rfl)
theorem dL_law_1977 : decode cL_law 1977 = .ok (.iaload, 1) := dk_46 (dk_at dksL_law_74 14 rfl rfl)
theorem dL_law_1978 : decode cL_law 1978 = .ok (.aload_n 0, 1) := dk_42 (dk_at dksL_law_74 15 rfl rfl)
theorem dL_law_1979 : decode cL_law 1979 = .ok (.iload_n 3, 1) := dk_29 (dk_at dksL_law_74 16 rfl rfl)
theorem dL_law_1980 : decode cL_law 1980 = .ok (.iconst 4, 1) := dk_7 (dk_at dksL_law_74 17 rfl rfl)
theorem dL_law_1981 : decode cL_law 1981 = .ok (.iadd, 1) := dk_96 (dk_at dksL_law_74 18 rfl rfl)
theorem dL_law_1982 : decode cL_law 1982 = .ok (.iaload, 1) := dk_46 (dk_at dksL_law_74 19 rfl rfl)
theorem dL_law_1983 : decode cL_law 1983 = .ok (.aload_n 0, 1) := dk_42 (dk_at dksL_law_74 20 rfl rfl)
theorem dL_law_1984 : decode cL_law 1984 = .ok (.iload_n 3, 1) := dk_29 (dk_at dksL_law_74 21 rfl rfl)
theorem dL_law_1985 : decode cL_law 1985 = .ok (.iconst 5, 1) := dk_8 (dk_at dksL_law_74 22 rfl rfl)
theorem dL_law_1986 : decode cL_law 1986 = .ok (.iadd, 1) := dk_96 (dk_at dksL_law_74 23 rfl rfl)
theorem dL_law_1987 : decode cL_law 1987 = .ok (.iaload, 1) := dk_46 (dk_at dksL_law_75 0 rfl rfl)
theorem dL_law_1988 : decode cL_law 1988 = .ok (.invokevirtual 262, 3) := dk_182 1 6 (dk_at dksL_law_75 1 rfl rfl)
theorem dL_law_1991 : decode cL_law 1991 = .ok (.if_icmp .eq 5, 3) := dk_159 0 5 (dk_at dksL_law_75 4 rfl rfl)
theorem dL_law_1994 : decode cL_law 1994 = .ok (.iconst 0, 1) := dk_3 (dk_at dksL_law_75 7 rfl rfl)
theorem dL_law_1995 : decode cL_law 1995 = .ok (.ireturn, 1) := dk_172 (dk_at dksL_law_75 8 rfl rfl)
theorem dL_law_1996 : decode cL_law 1996 = .ok (.iinc 3 6, 3) := dk_132 3 6 (dk_at dksL_law_75 9 rfl rfl)
theorem dL_law_1999 : decode cL_law 1999 = .ok (.goto (-1981), 3) := dk_167 248 67 (dk_at dksL_law_75 12 rfl rfl)
theorem dL_law_2002 : decode cL_law 2002 = .ok (.iconst 1, 1) := dk_4 (dk_at dksL_law_75 15 rfl rfl)
theorem dL_law_2003 : decode cL_law 2003 = .ok (.ireturn, 1) := dk_172 (dk_at dksL_law_75 16 rfl rfl)

/-! LockRail$Rail -/
set_option maxRecDepth 100000
def RX1 : String := "LockRail$Rail"
def TX1 : u_T := fun k => match k with
  | 0 => ("LockRail$Rail", "places", "I", false)
  | 1 => ("LockRail$Rail", "nights", "I", false)
  | 2 => ("LockRail$Rail", "markPrice", "I", false)
  | 3 => ("LockRail$Rail", "known", "I", false)
  | 4 => ("LockRail$Rail", "wage", "I", false)
  | 5 => ("LockRail$Rail", "adds", "I", false)
  | 6 => ("LockRail$Rail", "lines", "I", false)
  | 7 => ("LockRail$Rail", "isHidden", "Z", false)
  | 8 => ("LockRail$Rail", "hasMark", "Z", false)
  | 9 => ("LockRail$Rail", "hasWatch", "Z", false)
  | 10 => ("LockRail$Rail", "isWatched", "Z", false)
  | 11 => ("LockRail$Rail", "lamps", "Ljava/util/ArrayList;", true)
  | 12 => ("LockRail$Rail", "locks", "Ljava/util/ArrayList;", true)
  | 13 => ("LockRail$Rail", "bikes", "Ljava/util/ArrayList;", true)
  | 14 => ("LockRail$Rail", "thieves", "Ljava/util/ArrayList;", true)
  | 15 => ("LockRail$Rail", "bait", "LLockRail$Bike;", false)
  | 16 => ("LockRail$Rail", "triedAt", "I", false)
  | _ => ("LockRail$Rail", "triedBright", "I", false)
def tyX1 : Nat → FieldType := fun k => match k with
  | 0 => .int
  | 1 => .int
  | 2 => .int
  | 3 => .int
  | 4 => .int
  | 5 => .int
  | 6 => .int
  | 7 => .boolean
  | 8 => .boolean
  | 9 => .boolean
  | 10 => .boolean
  | 11 => .object "java/util/ArrayList"
  | 12 => .object "java/util/ArrayList"
  | 13 => .object "java/util/ArrayList"
  | 14 => .object "java/util/ArrayList"
  | 15 => .object "LockRail$Bike"
  | 16 => .int
  | _ => .int
abbrev wsX10 : List Cond := u_ws RX1 TX1 18
set_option maxRecDepth 100000 in
theorem nmX1 : ∀ a, a < 18 → ∀ b, b < 18 → a ≠ b → (TX1 a).2.1 ≠ (TX1 b).2.1 := by decide +kernel
set_option maxRecDepth 100000 in
theorem tyX1_ok : ∀ k, k < 18 → parseFieldDescriptor (TX1 k).2.2.1 = some (tyX1 k) := by decide +kernel
abbrev cX1_init : ByteArray := prog_13_method_1_code
def yX1_init : MethodName := ⟨RX1, "<init>", "()V"⟩
def dkwX1_init_2 : List UInt8 := [183, 0, 11, 181, 0, 26, 42, 2, 181, 0, 29, 177]
abbrev dktX1_init_2 : List UInt8 := dkwX1_init_2 ++ []
def dkwX1_init_1 : List UInt8 := [183, 0, 11, 181, 0, 20, 42, 187, 0, 9, 89, 5, 183, 0, 11, 181, 0, 23, 42, 187, 0, 9, 89, 5]
abbrev dktX1_init_1 : List UInt8 := dkwX1_init_1 ++ dktX1_init_2
def dkwX1_init_0 : List UInt8 := [42, 183, 0, 3, 42, 187, 0, 9, 89, 5, 183, 0, 11, 181, 0, 14, 42, 187, 0, 9, 89, 5]
abbrev dktX1_init_0 : List UInt8 := dkwX1_init_0 ++ dktX1_init_1
theorem dksX1_init_0 : cX1_init.data.toList.drop 0 = dktX1_init_0 := by decide +kernel
theorem dksX1_init_1 : cX1_init.data.toList.drop 22 = dktX1_init_1 := dk_seg dksX1_init_0 22 rfl rfl
theorem dksX1_init_2 : cX1_init.data.toList.drop 46 = dktX1_init_2 := dk_seg dksX1_init_1 24 rfl rfl
theorem dX1_init_0 : decode cX1_init 0 = .ok (.aload_n 0, 1) := dk_42 (dk_at dksX1_init_0 0 rfl rfl)
theorem dX1_init_1 : decode cX1_init 1 = .ok (.invokespecial 3, 3) := dk_183 0 3 (dk_at dksX1_init_0 1 rfl rfl)
theorem dX1_init_4 : decode cX1_init 4 = .ok (.aload_n 0, 1) := dk_42 (dk_at dksX1_init_0 4 rfl rfl)
theorem dX1_init_5 : decode cX1_init 5 = .ok (.new 9, 3) := dk_187 0 9 (dk_at dksX1_init_0 5 rfl rfl)
theorem dX1_init_8 : decode cX1_init 8 = .ok (.dup, 1) := dk_89 (dk_at dksX1_init_0 8 rfl rfl)
theorem dX1_init_9 : decode cX1_init 9 = .ok (.iconst 2, 1) := dk_5 (dk_at dksX1_init_0 9 rfl rfl)
theorem dX1_init_10 : decode cX1_init 10 = .ok (.invokespecial 11, 3) := dk_183 0 11 (dk_at dksX1_init_0 10 rfl rfl)
theorem dX1_init_13 : decode cX1_init 13 = .ok (.putfield 14, 3) := dk_181 0 14 (dk_at dksX1_init_0 13 rfl rfl)
theorem dX1_init_16 : decode cX1_init 16 = .ok (.aload_n 0, 1) := dk_42 (dk_at dksX1_init_0 16 rfl rfl)
theorem dX1_init_17 : decode cX1_init 17 = .ok (.new 9, 3) := dk_187 0 9 (dk_at dksX1_init_0 17 rfl rfl)
theorem dX1_init_20 : decode cX1_init 20 = .ok (.dup, 1) := dk_89 (dk_at dksX1_init_0 20 rfl rfl)
theorem dX1_init_21 : decode cX1_init 21 = .ok (.iconst 2, 1) := dk_5 (dk_at dksX1_init_0 21 rfl rfl)
theorem dX1_init_22 : decode cX1_init 22 = .ok (.invokespecial 11, 3) := dk_183 0 11 (dk_at dksX1_init_1 0 rfl rfl)
theorem dX1_init_25 : decode cX1_init 25 = .ok (.putfield 20, 3) := dk_181 0 20 (dk_at dksX1_init_1 3 rfl rfl)
theorem dX1_init_28 : decode cX1_init 28 = .ok (.aload_n 0, 1) := dk_42 (dk_at dksX1_init_1 6 rfl rfl)
theorem dX1_init_29 : decode cX1_init 29 = .ok (.new 9, 3) := dk_187 0 9 (dk_at dksX1_init_1 7 rfl rfl)
theorem dX1_init_32 : decode cX1_init 32 = .ok (.dup, 1) := dk_89 (dk_at dksX1_init_1 10 rfl rfl)
theorem dX1_init_33 : decode cX1_init 33 = .ok (.iconst 2, 1) := dk_5 (dk_at dksX1_init_1 11 rfl rfl)
theorem dX1_init_34 : decode cX1_init 34 = .ok (.invokespecial 11, 3) := dk_183 0 11 (dk_at dksX1_init_1 12 rfl rfl)
theorem dX1_init_37 : decode cX1_init 37 = .ok (.putfield 23, 3) := dk_181 0 23 (dk_at dksX1_init_1 15 rfl rfl)
theorem dX1_init_40 : decode cX1_init 40 = .ok (.aload_n 0, 1) := dk_42 (dk_at dksX1_init_1 18 rfl rfl)
theorem dX1_init_41 : decode cX1_init 41 = .ok (.new 9, 3) := dk_187 0 9 (dk_at dksX1_init_1 19 rfl rfl)
theorem dX1_init_44 : decode cX1_init 44 = .ok (.dup, 1) := dk_89 (dk_at dksX1_init_1 22 rfl rfl)
theorem dX1_init_45 : decode cX1_init 45 = .ok (.iconst 2, 1) := dk_5 (dk_at dksX1_init_1 23 rfl rfl)
theorem dX1_init_46 : decode cX1_init 46 = .ok (.invokespecial 11, 3) := dk_183 0 11 (dk_at dksX1_init_2 0 rfl rfl)
theorem dX1_init_49 : decode cX1_init 49 = .ok (.putfield 26, 3) := dk_181 0 26 (dk_at dksX1_init_2 3 rfl rfl)
theorem dX1_init_52 : decode cX1_init 52 = .ok (.aload_n 0, 1) := dk_42 (dk_at dksX1_init_2 6 rfl rfl)
theorem dX1_init_53 : decode cX1_init 53 = .ok (.iconst (-1), 1) := dk_2 (dk_at dksX1_init_2 7 rfl rfl)
theorem dX1_init_54 : decode cX1_init 54 = .ok (.putfield 29, 3) := dk_181 0 29 (dk_at dksX1_init_2 8 rfl rfl)
theorem dX1_init_57 : decode cX1_init 57 = .ok (.return_, 1) := dk_177 (dk_at dksX1_init_2 11 rfl rfl)
abbrev cX1_standsOn : ByteArray := prog_13_method_10_code
def yX1_standsOn : MethodName := ⟨RX1, "standsOn", "(I)I"⟩
def dkwX1_standsOn_1 : List UInt8 := [180, 0, 133, 27, 160, 0, 5, 28, 172, 132, 2, 1, 167, 255, 222, 2, 172]
abbrev dktX1_standsOn_1 : List UInt8 := dkwX1_standsOn_1 ++ []
def dkwX1_standsOn_0 : List UInt8 := [3, 61, 28, 42, 180, 0, 23, 182, 0, 72, 162, 0, 29, 42, 180, 0, 23, 28, 182, 0, 76, 192, 0, 80]
abbrev dktX1_standsOn_0 : List UInt8 := dkwX1_standsOn_0 ++ dktX1_standsOn_1
theorem dksX1_standsOn_0 : cX1_standsOn.data.toList.drop 0 = dktX1_standsOn_0 := by decide +kernel
theorem dksX1_standsOn_1 : cX1_standsOn.data.toList.drop 24 = dktX1_standsOn_1 := dk_seg dksX1_standsOn_0 24 rfl rfl
theorem dX1_standsOn_0 : decode cX1_standsOn 0 = .ok (.iconst 0, 1) := dk_3 (dk_at dksX1_standsOn_0 0 rfl rfl)
theorem dX1_standsOn_1 : decode cX1_standsOn 1 = .ok (.istore_n 2, 1) := dk_61 (dk_at dksX1_standsOn_0 1 rfl rfl)
theorem dX1_standsOn_2 : decode cX1_standsOn 2 = .ok (.iload_n 2, 1) := dk_28 (dk_at dksX1_standsOn_0 2 rfl rfl)
theorem dX1_standsOn_3 : decode cX1_standsOn 3 = .ok (.aload_n 0, 1) := dk_42 (dk_at dksX1_standsOn_0 3 rfl rfl)
theorem dX1_standsOn_4 : decode cX1_standsOn 4 = .ok (.getfield 23, 3) := dk_180 0 23 (dk_at dksX1_standsOn_0 4 rfl rfl)
theorem dX1_standsOn_7 : decode cX1_standsOn 7 = .ok (.invokevirtual 72, 3) := dk_182 0 72 (dk_at dksX1_standsOn_0 7 rfl rfl)
theorem dX1_standsOn_10 : decode cX1_standsOn 10 = .ok (.if_icmp .ge 29, 3) := dk_162 0 29 (dk_at dksX1_standsOn_0 10 rfl rfl)
theorem dX1_standsOn_13 : decode cX1_standsOn 13 = .ok (.aload_n 0, 1) := dk_42 (dk_at dksX1_standsOn_0 13 rfl rfl)
theorem dX1_standsOn_14 : decode cX1_standsOn 14 = .ok (.getfield 23, 3) := dk_180 0 23 (dk_at dksX1_standsOn_0 14 rfl rfl)
theorem dX1_standsOn_17 : decode cX1_standsOn 17 = .ok (.iload_n 2, 1) := dk_28 (dk_at dksX1_standsOn_0 17 rfl rfl)
theorem dX1_standsOn_18 : decode cX1_standsOn 18 = .ok (.invokevirtual 76, 3) := dk_182 0 76 (dk_at dksX1_standsOn_0 18 rfl rfl)
theorem dX1_standsOn_21 : decode cX1_standsOn 21 = .ok (.checkcast 80, 3) := dk_192 0 80 (dk_at dksX1_standsOn_0 21 rfl rfl)
theorem dX1_standsOn_24 : decode cX1_standsOn 24 = .ok (.getfield 133, 3) := dk_180 0 133 (dk_at dksX1_standsOn_1 0 rfl rfl)
theorem dX1_standsOn_27 : decode cX1_standsOn 27 = .ok (.iload_n 1, 1) := dk_27 (dk_at dksX1_standsOn_1 3 rfl rfl)
theorem dX1_standsOn_28 : decode cX1_standsOn 28 = .ok (.if_icmp .ne 5, 3) := dk_160 0 5 (dk_at dksX1_standsOn_1 4 rfl rfl)
theorem dX1_standsOn_31 : decode cX1_standsOn 31 = .ok (.iload_n 2, 1) := dk_28 (dk_at dksX1_standsOn_1 7 rfl rfl)
theorem dX1_standsOn_32 : decode cX1_standsOn 32 = .ok (.ireturn, 1) := dk_172 (dk_at dksX1_standsOn_1 8 rfl rfl)
theorem dX1_standsOn_33 : decode cX1_standsOn 33 = .ok (.iinc 2 1, 3) := dk_132 2 1 (dk_at dksX1_standsOn_1 9 rfl rfl)
theorem dX1_standsOn_36 : decode cX1_standsOn 36 = .ok (.goto (-34), 3) := dk_167 255 222 (dk_at dksX1_standsOn_1 12 rfl rfl)
theorem dX1_standsOn_39 : decode cX1_standsOn 39 = .ok (.iconst (-1), 1) := dk_2 (dk_at dksX1_standsOn_1 15 rfl rfl)
theorem dX1_standsOn_40 : decode cX1_standsOn 40 = .ok (.ireturn, 1) := dk_172 (dk_at dksX1_standsOn_1 16 rfl rfl)
abbrev cX1_many : ByteArray := prog_13_method_3_code
def yX1_many : MethodName := ⟨RX1, "many", "()I"⟩
def dkwX1_many_0 : List UInt8 := [42, 180, 0, 23, 182, 0, 72, 172]
abbrev dktX1_many_0 : List UInt8 := dkwX1_many_0 ++ []
theorem dksX1_many_0 : cX1_many.data.toList.drop 0 = dktX1_many_0 := by decide +kernel
theorem dX1_many_0 : decode cX1_many 0 = .ok (.aload_n 0, 1) := dk_42 (dk_at dksX1_many_0 0 rfl rfl)
theorem dX1_many_1 : decode cX1_many 1 = .ok (.getfield 23, 3) := dk_180 0 23 (dk_at dksX1_many_0 1 rfl rfl)
theorem dX1_many_4 : decode cX1_many 4 = .ok (.invokevirtual 72, 3) := dk_182 0 72 (dk_at dksX1_many_0 4 rfl rfl)
theorem dX1_many_7 : decode cX1_many 7 = .ok (.ireturn, 1) := dk_172 (dk_at dksX1_many_0 7 rfl rfl)
abbrev cX1_light : ByteArray := prog_13_method_6_code
def yX1_light : MethodName := ⟨RX1, "light", "(I)I"⟩
def dkwX1_light_3 : List UInt8 := [27, 42, 180, 0, 29, 100, 184, 0, 103, 100, 184, 0, 108, 96, 172]
abbrev dktX1_light_3 : List UInt8 := dkwX1_light_3 ++ []
def dkwX1_light_2 : List UInt8 := [132, 3, 1, 167, 255, 224, 28, 42, 180, 0, 29, 2, 160, 0, 7, 3, 167, 0, 21, 3, 42, 180, 0, 100]
abbrev dktX1_light_2 : List UInt8 := dkwX1_light_2 ++ dktX1_light_3
def dkwX1_light_1 : List UInt8 := [182, 0, 72, 162, 0, 27, 28, 42, 180, 0, 14, 29, 182, 0, 76, 192, 0, 94, 27, 182, 0, 96, 96, 61]
abbrev dktX1_light_1 : List UInt8 := dkwX1_light_1 ++ dktX1_light_2
def dkwX1_light_0 : List UInt8 := [42, 180, 0, 65, 153, 0, 10, 42, 180, 0, 49, 167, 0, 4, 3, 61, 3, 62, 29, 42, 180, 0, 14]
abbrev dktX1_light_0 : List UInt8 := dkwX1_light_0 ++ dktX1_light_1
theorem dksX1_light_0 : cX1_light.data.toList.drop 0 = dktX1_light_0 := by decide +kernel
theorem dksX1_light_1 : cX1_light.data.toList.drop 23 = dktX1_light_1 := dk_seg dksX1_light_0 23 rfl rfl
theorem dksX1_light_2 : cX1_light.data.toList.drop 47 = dktX1_light_2 := dk_seg dksX1_light_1 24 rfl rfl
theorem dksX1_light_3 : cX1_light.data.toList.drop 71 = dktX1_light_3 := dk_seg dksX1_light_2 24 rfl rfl
theorem dX1_light_0 : decode cX1_light 0 = .ok (.aload_n 0, 1) := dk_42 (dk_at dksX1_light_0 0 rfl rfl)
theorem dX1_light_1 : decode cX1_light 1 = .ok (.getfield 65, 3) := dk_180 0 65 (dk_at dksX1_light_0 1 rfl rfl)
theorem dX1_light_4 : decode cX1_light 4 = .ok (.ifCond .eq 10, 3) := dk_153 0 10 (dk_at dksX1_light_0 4 rfl rfl)
theorem dX1_light_7 : decode cX1_light 7 = .ok (.aload_n 0, 1) := dk_42 (dk_at dksX1_light_0 7 rfl rfl)
theorem dX1_light_8 : decode cX1_light 8 = .ok (.getfield 49, 3) := dk_180 0 49 (dk_at dksX1_light_0 8 rfl rfl)
theorem dX1_light_11 : decode cX1_light 11 = .ok (.goto 4, 3) := dk_167 0 4 (dk_at dksX1_light_0 11 rfl rfl)
theorem dX1_light_14 : decode cX1_light 14 = .ok (.iconst 0, 1) := dk_3 (dk_at dksX1_light_0 14 rfl rfl)
theorem dX1_light_15 : decode cX1_light 15 = .ok (.istore_n 2, 1) := dk_61 (dk_at dksX1_light_0 15 rfl rfl)
theorem dX1_light_16 : decode cX1_light 16 = .ok (.iconst 0, 1) := dk_3 (dk_at dksX1_light_0 16 rfl rfl)
theorem dX1_light_17 : decode cX1_light 17 = .ok (.istore_n 3, 1) := dk_62 (dk_at dksX1_light_0 17 rfl rfl)
theorem dX1_light_18 : decode cX1_light 18 = .ok (.iload_n 3, 1) := dk_29 (dk_at dksX1_light_0 18 rfl rfl)
theorem dX1_light_19 : decode cX1_light 19 = .ok (.aload_n 0, 1) := dk_42 (dk_at dksX1_light_0 19 rfl rfl)
theorem dX1_light_20 : decode cX1_light 20 = .ok (.getfield 14, 3) := dk_180 0 14 (dk_at dksX1_light_0 20 rfl rfl)
theorem dX1_light_23 : decode cX1_light 23 = .ok (.invokevirtual 72, 3) := dk_182 0 72 (dk_at dksX1_light_1 0 rfl rfl)
theorem dX1_light_26 : decode cX1_light 26 = .ok (.if_icmp .ge 27, 3) := dk_162 0 27 (dk_at dksX1_light_1 3 rfl rfl)
theorem dX1_light_29 : decode cX1_light 29 = .ok (.iload_n 2, 1) := dk_28 (dk_at dksX1_light_1 6 rfl rfl)
theorem dX1_light_30 : decode cX1_light 30 = .ok (.aload_n 0, 1) := dk_42 (dk_at dksX1_light_1 7 rfl rfl)
theorem dX1_light_31 : decode cX1_light 31 = .ok (.getfield 14, 3) := dk_180 0 14 (dk_at dksX1_light_1 8 rfl rfl)
theorem dX1_light_34 : decode cX1_light 34 = .ok (.iload_n 3, 1) := dk_29 (dk_at dksX1_light_1 11 rfl rfl)
theorem dX1_light_35 : decode cX1_light 35 = .ok (.invokevirtual 76, 3) := dk_182 0 76 (dk_at dksX1_light_1 12 rfl rfl)
theorem dX1_light_38 : decode cX1_light 38 = .ok (.checkcast 94, 3) := dk_192 0 94 (dk_at dksX1_light_1 15 rfl rfl)
theorem dX1_light_41 : decode cX1_light 41 = .ok (.iload_n 1, 1) := dk_27 (dk_at dksX1_light_1 18 rfl rfl)
theorem dX1_light_42 : decode cX1_light 42 = .ok (.invokevirtual 96, 3) := dk_182 0 96 (dk_at dksX1_light_1 19 rfl rfl)
theorem dX1_light_45 : decode cX1_light 45 = .ok (.iadd, 1) := dk_96 (dk_at dksX1_light_1 22 rfl rfl)
theorem dX1_light_46 : decode cX1_light 46 = .ok (.istore_n 2, 1) := dk_61 (dk_at dksX1_light_1 23 rfl rfl)
theorem dX1_light_47 : decode cX1_light 47 = .ok (.iinc 3 1, 3) := dk_132 3 1 (dk_at dksX1_light_2 0 rfl rfl)
theorem dX1_light_50 : decode cX1_light 50 = .ok (.goto (-32), 3) := dk_167 255 224 (dk_at dksX1_light_2 3 rfl rfl)
theorem dX1_light_53 : decode cX1_light 53 = .ok (.iload_n 2, 1) := dk_28 (dk_at dksX1_light_2 6 rfl rfl)
theorem dX1_light_54 : decode cX1_light 54 = .ok (.aload_n 0, 1) := dk_42 (dk_at dksX1_light_2 7 rfl rfl)
theorem dX1_light_55 : decode cX1_light 55 = .ok (.getfield 29, 3) := dk_180 0 29 (dk_at dksX1_light_2 8 rfl rfl)
theorem dX1_light_58 : decode cX1_light 58 = .ok (.iconst (-1), 1) := dk_2 (dk_at dksX1_light_2 11 rfl rfl)
theorem dX1_light_59 : decode cX1_light 59 = .ok (.if_icmp .ne 7, 3) := dk_160 0 7 (dk_at dksX1_light_2 12 rfl rfl)
theorem dX1_light_62 : decode cX1_light 62 = .ok (.iconst 0, 1) := dk_3 (dk_at dksX1_light_2 15 rfl rfl)
theorem dX1_light_63 : decode cX1_light 63 = .ok (.goto 21, 3) := dk_167 0 21 (dk_at dksX1_light_2 16 rfl rfl)
theorem dX1_light_66 : decode cX1_light 66 = .ok (.iconst 0, 1) := dk_3 (dk_at dksX1_light_2 19 rfl rfl)
theorem dX1_light_67 : decode cX1_light 67 = .ok (.aload_n 0, 1) := dk_42 (dk_at dksX1_light_2 20 rfl rfl)
theorem dX1_light_68 : decode cX1_light 68 = .ok (.getfield 100, 3) := dk_180 0 100 (dk_at dksX1_light_2 21 rfl rfl)
theorem dX1_light_71 : decode cX1_light 71 = .ok (.iload_n 1, 1) := dk_27 (dk_at dksX1_light_3 0 rfl rfl)
theorem dX1_light_72 : decode cX1_light 72 = .ok (.aload_n 0, 1) := dk_42 (dk_at dksX1_light_3 1 rfl rfl)
theorem dX1_light_73 : decode cX1_light 73 = .ok (.getfield 29, 3) := dk_180 0 29 (dk_at dksX1_light_3 2 rfl rfl)
theorem dX1_light_76 : decode cX1_light 76 = .ok (.isub, 1) := dk_100 (dk_at dksX1_light_3 5 rfl rfl)
theorem dX1_light_77 : decode cX1_light 77 = .ok (.invokestatic 103, 3) := dk_184 0 103 (dk_at dksX1_light_3 6 rfl rfl)
theorem dX1_light_80 : decode cX1_light 80 = .ok (.isub, 1) := dk_100 (dk_at dksX1_light_3 9 rfl rfl)
theorem dX1_light_81 : decode cX1_light 81 = .ok (.invokestatic 108, 3) := dk_184 0 108 (dk_at dksX1_light_3 10 rfl rfl)
theorem dX1_light_84 : decode cX1_light 84 = .ok (.iadd, 1) := dk_96 (dk_at dksX1_light_3 13 rfl rfl)
theorem dX1_light_85 : decode cX1_light 85 = .ok (.ireturn, 1) := dk_172 (dk_at dksX1_light_3 14 rfl rfl)
abbrev cX1_trouble : ByteArray := prog_13_method_7_code
def yX1_trouble : MethodName := ⟨RX1, "trouble", "(LLockRail$Thief;I)I"⟩
def dkwX1_trouble_2 : List UInt8 := [45, 180, 0, 133, 182, 0, 136, 96, 104, 16, 100, 108, 172]
abbrev dktX1_trouble_2 : List UInt8 := dkwX1_trouble_2 ++ []
def dkwX1_trouble_1 : List UInt8 := [180, 0, 116, 182, 0, 76, 192, 0, 119, 180, 0, 121, 43, 180, 0, 125, 46, 43, 180, 0, 130, 104, 4, 42]
abbrev dktX1_trouble_1 : List UInt8 := dkwX1_trouble_1 ++ dktX1_trouble_2
def dkwX1_trouble_0 : List UInt8 := [42, 28, 182, 0, 112, 78, 45, 180, 0, 116, 2, 160, 0, 7, 3, 167, 0, 44, 42, 180, 0, 20, 45]
abbrev dktX1_trouble_0 : List UInt8 := dkwX1_trouble_0 ++ dktX1_trouble_1
theorem dksX1_trouble_0 : cX1_trouble.data.toList.drop 0 = dktX1_trouble_0 := by decide +kernel
theorem dksX1_trouble_1 : cX1_trouble.data.toList.drop 23 = dktX1_trouble_1 := dk_seg dksX1_trouble_0 23 rfl rfl
theorem dksX1_trouble_2 : cX1_trouble.data.toList.drop 47 = dktX1_trouble_2 := dk_seg dksX1_trouble_1 24 rfl rfl
theorem dX1_trouble_0 : decode cX1_trouble 0 = .ok (.aload_n 0, 1) := dk_42 (dk_at dksX1_trouble_0 0 rfl rfl)
theorem dX1_trouble_1 : decode cX1_trouble 1 = .ok (.iload_n 2, 1) := dk_28 (dk_at dksX1_trouble_0 1 rfl rfl)
theorem dX1_trouble_2 : decode cX1_trouble 2 = .ok (.invokevirtual 112, 3) := dk_182 0 112 (dk_at dksX1_trouble_0 2 rfl rfl)
theorem dX1_trouble_5 : decode cX1_trouble 5 = .ok (.astore_n 3, 1) := dk_78 (dk_at dksX1_trouble_0 5 rfl rfl)
theorem dX1_trouble_6 : decode cX1_trouble 6 = .ok (.aload_n 3, 1) := dk_45 (dk_at dksX1_trouble_0 6 rfl rfl)
theorem dX1_trouble_7 : decode cX1_trouble 7 = .ok (.getfield 116, 3) := dk_180 0 116 (dk_at dksX1_trouble_0 7 rfl rfl)
theorem dX1_trouble_10 : decode cX1_trouble 10 = .ok (.iconst (-1), 1) := dk_2 (dk_at dksX1_trouble_0 10 rfl rfl)
theorem dX1_trouble_11 : decode cX1_trouble 11 = .ok (.if_icmp .ne 7, 3) := dk_160 0 7 (dk_at dksX1_trouble_0 11 rfl rfl)
theorem dX1_trouble_14 : decode cX1_trouble 14 = .ok (.iconst 0, 1) := dk_3 (dk_at dksX1_trouble_0 14 rfl rfl)
theorem dX1_trouble_15 : decode cX1_trouble 15 = .ok (.goto 44, 3) := dk_167 0 44 (dk_at dksX1_trouble_0 15 rfl rfl)
theorem dX1_trouble_18 : decode cX1_trouble 18 = .ok (.aload_n 0, 1) := dk_42 (dk_at dksX1_trouble_0 18 rfl rfl)
theorem dX1_trouble_19 : decode cX1_trouble 19 = .ok (.getfield 20, 3) := dk_180 0 20 (dk_at dksX1_trouble_0 19 rfl rfl)
theorem dX1_trouble_22 : decode cX1_trouble 22 = .ok (.aload_n 3, 1) := dk_45 (dk_at dksX1_trouble_0 22 rfl rfl)
theorem dX1_trouble_23 : decode cX1_trouble 23 = .ok (.getfield 116, 3) := dk_180 0 116 (dk_at dksX1_trouble_1 0 rfl rfl)
theorem dX1_trouble_26 : decode cX1_trouble 26 = .ok (.invokevirtual 76, 3) := dk_182 0 76 (dk_at dksX1_trouble_1 3 rfl rfl)
theorem dX1_trouble_29 : decode cX1_trouble 29 = .ok (.checkcast 119, 3) := dk_192 0 119 (dk_at dksX1_trouble_1 6 rfl rfl)
theorem dX1_trouble_32 : decode cX1_trouble 32 = .ok (.getfield 121, 3) := dk_180 0 121 (dk_at dksX1_trouble_1 9 rfl rfl)
theorem dX1_trouble_35 : decode cX1_trouble 35 = .ok (.aload_n 1, 1) := dk_43 (dk_at dksX1_trouble_1 12 rfl rfl)
theorem dX1_trouble_36 : decode cX1_trouble 36 = .ok (.getfield 125, 3) := dk_180 0 125 (dk_at dksX1_trouble_1 13 rfl rfl)
theorem dX1_trouble_39 : decode cX1_trouble 39 = .ok (.iaload, 1) := dk_46 (dk_at dksX1_trouble_1 16 rfl rfl)
theorem dX1_trouble_40 : decode cX1_trouble 40 = .ok (.aload_n 1, 1) := dk_43 (dk_at dksX1_trouble_1 17 rfl rfl)
theorem dX1_trouble_41 : decode cX1_trouble 41 = .ok (.getfield 130, 3) := dk_180 0 130 (dk_at dksX1_trouble_1 18 rfl rfl)
theorem dX1_trouble_44 : decode cX1_trouble 44 = .ok (.imul, 1) := dk_104 (dk_at dksX1_trouble_1 21 rfl rfl)
theorem dX1_trouble_45 : decode cX1_trouble 45 = .ok (.iconst 1, 1) := dk_4 (dk_at dksX1_trouble_1 22 rfl rfl)
theorem dX1_trouble_46 : decode cX1_trouble 46 = .ok (.aload_n 0, 1) := dk_42 (dk_at dksX1_trouble_1 23 rfl rfl)
theorem dX1_trouble_47 : decode cX1_trouble 47 = .ok (.aload_n 3, 1) := dk_45 (dk_at dksX1_trouble_2 0 rfl rfl)
theorem dX1_trouble_48 : decode cX1_trouble 48 = .ok (.getfield 133, 3) := dk_180 0 133 (dk_at dksX1_trouble_2 1 rfl rfl)
theorem dX1_trouble_51 : decode cX1_trouble 51 = .ok (.invokevirtual 136, 3) := dk_182 0 136 (dk_at dksX1_trouble_2 4 rfl rfl)
theorem dX1_trouble_54 : decode cX1_trouble 54 = .ok (.iadd, 1) := dk_96 (dk_at dksX1_trouble_2 7 rfl rfl)
theorem dX1_trouble_55 : decode cX1_trouble 55 = .ok (.imul, 1) := dk_104 (dk_at dksX1_trouble_2 8 rfl rfl)
theorem dX1_trouble_56 : decode cX1_trouble 56 = .ok (.bipush 100, 2) := dk_16 100 (dk_at dksX1_trouble_2 9 rfl rfl)
theorem dX1_trouble_58 : decode cX1_trouble 58 = .ok (.idiv, 1) := dk_108 (dk_at dksX1_trouble_2 11 rfl rfl)
theorem dX1_trouble_59 : decode cX1_trouble 59 = .ok (.ireturn, 1) := dk_172 (dk_at dksX1_trouble_2 12 rfl rfl)
abbrev cX1_bike : ByteArray := prog_13_method_5_code
def yX1_bike : MethodName := ⟨RX1, "bike", "(I)LLockRail$Bike;"⟩
def dkwX1_bike_1 : List UInt8 := [182, 0, 76, 192, 0, 80, 176]
abbrev dktX1_bike_1 : List UInt8 := dkwX1_bike_1 ++ []
def dkwX1_bike_0 : List UInt8 := [27, 42, 180, 0, 23, 182, 0, 72, 160, 0, 10, 42, 180, 0, 90, 167, 0, 14, 42, 180, 0, 23, 27]
abbrev dktX1_bike_0 : List UInt8 := dkwX1_bike_0 ++ dktX1_bike_1
theorem dksX1_bike_0 : cX1_bike.data.toList.drop 0 = dktX1_bike_0 := by decide +kernel
theorem dksX1_bike_1 : cX1_bike.data.toList.drop 23 = dktX1_bike_1 := dk_seg dksX1_bike_0 23 rfl rfl
theorem dX1_bike_0 : decode cX1_bike 0 = .ok (.iload_n 1, 1) := dk_27 (dk_at dksX1_bike_0 0 rfl rfl)
theorem dX1_bike_1 : decode cX1_bike 1 = .ok (.aload_n 0, 1) := dk_42 (dk_at dksX1_bike_0 1 rfl rfl)
theorem dX1_bike_2 : decode cX1_bike 2 = .ok (.getfield 23, 3) := dk_180 0 23 (dk_at dksX1_bike_0 2 rfl rfl)
theorem dX1_bike_5 : decode cX1_bike 5 = .ok (.invokevirtual 72, 3) := dk_182 0 72 (dk_at dksX1_bike_0 5 rfl rfl)
theorem dX1_bike_8 : decode cX1_bike 8 = .ok (.if_icmp .ne 10, 3) := dk_160 0 10 (dk_at dksX1_bike_0 8 rfl rfl)
theorem dX1_bike_11 : decode cX1_bike 11 = .ok (.aload_n 0, 1) := dk_42 (dk_at dksX1_bike_0 11 rfl rfl)
theorem dX1_bike_12 : decode cX1_bike 12 = .ok (.getfield 90, 3) := dk_180 0 90 (dk_at dksX1_bike_0 12 rfl rfl)
theorem dX1_bike_15 : decode cX1_bike 15 = .ok (.goto 14, 3) := dk_167 0 14 (dk_at dksX1_bike_0 15 rfl rfl)
theorem dX1_bike_18 : decode cX1_bike 18 = .ok (.aload_n 0, 1) := dk_42 (dk_at dksX1_bike_0 18 rfl rfl)
theorem dX1_bike_19 : decode cX1_bike 19 = .ok (.getfield 23, 3) := dk_180 0 23 (dk_at dksX1_bike_0 19 rfl rfl)
theorem dX1_bike_22 : decode cX1_bike 22 = .ok (.iload_n 1, 1) := dk_27 (dk_at dksX1_bike_0 22 rfl rfl)
theorem dX1_bike_23 : decode cX1_bike 23 = .ok (.invokevirtual 76, 3) := dk_182 0 76 (dk_at dksX1_bike_1 0 rfl rfl)
theorem dX1_bike_26 : decode cX1_bike 26 = .ok (.checkcast 80, 3) := dk_192 0 80 (dk_at dksX1_bike_1 3 rfl rfl)
theorem dX1_bike_29 : decode cX1_bike 29 = .ok (.areturn, 1) := dk_176 (dk_at dksX1_bike_1 6 rfl rfl)
abbrev cX1_gain : ByteArray := prog_13_method_9_code
def yX1_gain : MethodName := ⟨RX1, "gain", "(I)I"⟩
def dkwX1_gain_3 : List UInt8 := [180, 0, 43, 100, 104, 16, 100, 108, 167, 0, 7, 44, 180, 0, 142, 172]
abbrev dktX1_gain_3 : List UInt8 := dkwX1_gain_3 ++ []
def dkwX1_gain_2 : List UInt8 := [104, 16, 100, 42, 182, 0, 145, 104, 108, 172, 44, 180, 0, 139, 153, 0, 21, 44, 180, 0, 142, 16, 100, 42]
abbrev dktX1_gain_2 : List UInt8 := dkwX1_gain_2 ++ dktX1_gain_3
def dkwX1_gain_1 : List UInt8 := [153, 0, 34, 44, 180, 0, 142, 16, 100, 42, 182, 0, 145, 104, 42, 180, 0, 43, 42, 182, 0, 148, 104, 100]
abbrev dktX1_gain_1 : List UInt8 := dkwX1_gain_1 ++ dktX1_gain_2
def dkwX1_gain_0 : List UInt8 := [42, 27, 182, 0, 112, 77, 44, 42, 180, 0, 90, 166, 0, 8, 44, 180, 0, 142, 172, 42, 180, 0, 55]
abbrev dktX1_gain_0 : List UInt8 := dkwX1_gain_0 ++ dktX1_gain_1
theorem dksX1_gain_0 : cX1_gain.data.toList.drop 0 = dktX1_gain_0 := by decide +kernel
theorem dksX1_gain_1 : cX1_gain.data.toList.drop 23 = dktX1_gain_1 := dk_seg dksX1_gain_0 23 rfl rfl
theorem dksX1_gain_2 : cX1_gain.data.toList.drop 47 = dktX1_gain_2 := dk_seg dksX1_gain_1 24 rfl rfl
theorem dksX1_gain_3 : cX1_gain.data.toList.drop 71 = dktX1_gain_3 := dk_seg dksX1_gain_2 24 rfl rfl
theorem dX1_gain_0 : decode cX1_gain 0 = .ok (.aload_n 0, 1) := dk_42 (dk_at dksX1_gain_0 0 rfl rfl)
theorem dX1_gain_1 : decode cX1_gain 1 = .ok (.iload_n 1, 1) := dk_27 (dk_at dksX1_gain_0 1 rfl rfl)
theorem dX1_gain_2 : decode cX1_gain 2 = .ok (.invokevirtual 112, 3) := dk_182 0 112 (dk_at dksX1_gain_0 2 rfl rfl)
theorem dX1_gain_5 : decode cX1_gain 5 = .ok (.astore_n 2, 1) := dk_77 (dk_at dksX1_gain_0 5 rfl rfl)
theorem dX1_gain_6 : decode cX1_gain 6 = .ok (.aload_n 2, 1) := dk_44 (dk_at dksX1_gain_0 6 rfl rfl)
theorem dX1_gain_7 : decode cX1_gain 7 = .ok (.aload_n 0, 1) := dk_42 (dk_at dksX1_gain_0 7 rfl rfl)
theorem dX1_gain_8 : decode cX1_gain 8 = .ok (.getfield 90, 3) := dk_180 0 90 (dk_at dksX1_gain_0 8 rfl rfl)
theorem dX1_gain_11 : decode cX1_gain 11 = .ok (.if_acmp .ne 8, 3) := dk_166 0 8 (dk_at dksX1_gain_0 11 rfl rfl)
theorem dX1_gain_14 : decode cX1_gain 14 = .ok (.aload_n 2, 1) := dk_44 (dk_at dksX1_gain_0 14 rfl rfl)
theorem dX1_gain_15 : decode cX1_gain 15 = .ok (.getfield 142, 3) := dk_180 0 142 (dk_at dksX1_gain_0 15 rfl rfl)
theorem dX1_gain_18 : decode cX1_gain 18 = .ok (.ireturn, 1) := dk_172 (dk_at dksX1_gain_0 18 rfl rfl)
theorem dX1_gain_19 : decode cX1_gain 19 = .ok (.aload_n 0, 1) := dk_42 (dk_at dksX1_gain_0 19 rfl rfl)
theorem dX1_gain_20 : decode cX1_gain 20 = .ok (.getfield 55, 3) := dk_180 0 55 (dk_at dksX1_gain_0 20 rfl rfl)
theorem dX1_gain_23 : decode cX1_gain 23 = .ok (.ifCond .eq 34, 3) := dk_153 0 34 (dk_at dksX1_gain_1 0 rfl rfl)
theorem dX1_gain_26 : decode cX1_gain 26 = .ok (.aload_n 2, 1) := dk_44 (dk_at dksX1_gain_1 3 rfl rfl)
theorem dX1_gain_27 : decode cX1_gain 27 = .ok (.getfield 142, 3) := dk_180 0 142 (dk_at dksX1_gain_1 4 rfl rfl)
theorem dX1_gain_30 : decode cX1_gain 30 = .ok (.bipush 100, 2) := dk_16 100 (dk_at dksX1_gain_1 7 rfl rfl)
theorem dX1_gain_32 : decode cX1_gain 32 = .ok (.aload_n 0, 1) := dk_42 (dk_at dksX1_gain_1 9 rfl rfl)
theorem dX1_gain_33 : decode cX1_gain 33 = .ok (.invokevirtual 145, 3) := dk_182 0 145 (dk_at dksX1_gain_1 10 rfl rfl)
theorem dX1_gain_36 : decode cX1_gain 36 = .ok (.imul, 1) := dk_104 (dk_at dksX1_gain_1 13 rfl rfl)
theorem dX1_gain_37 : decode cX1_gain 37 = .ok (.aload_n 0, 1) := dk_42 (dk_at dksX1_gain_1 14 rfl rfl)
theorem dX1_gain_38 : decode cX1_gain 38 = .ok (.getfield 43, 3) := dk_180 0 43 (dk_at dksX1_gain_1 15 rfl rfl)
theorem dX1_gain_41 : decode cX1_gain 41 = .ok (.aload_n 0, 1) := dk_42 (dk_at dksX1_gain_1 18 rfl rfl)
theorem dX1_gain_42 : decode cX1_gain 42 = .ok (.invokevirtual 148, 3) := dk_182 0 148 (dk_at dksX1_gain_1 19 rfl rfl)
theorem dX1_gain_45 : decode cX1_gain 45 = .ok (.imul, 1) := dk_104 (dk_at dksX1_gain_1 22 rfl rfl)
theorem dX1_gain_46 : decode cX1_gain 46 = .ok (.isub, 1) := dk_100 (dk_at dksX1_gain_1 23 rfl rfl)
theorem dX1_gain_47 : decode cX1_gain 47 = .ok (.imul, 1) := dk_104 (dk_at dksX1_gain_2 0 rfl rfl)
theorem dX1_gain_48 : decode cX1_gain 48 = .ok (.bipush 100, 2) := dk_16 100 (dk_at dksX1_gain_2 1 rfl rfl)
theorem dX1_gain_50 : decode cX1_gain 50 = .ok (.aload_n 0, 1) := dk_42 (dk_at dksX1_gain_2 3 rfl rfl)
theorem dX1_gain_51 : decode cX1_gain 51 = .ok (.invokevirtual 145, 3) := dk_182 0 145 (dk_at dksX1_gain_2 4 rfl rfl)
theorem dX1_gain_54 : decode cX1_gain 54 = .ok (.imul, 1) := dk_104 (dk_at dksX1_gain_2 7 rfl rfl)
theorem dX1_gain_55 : decode cX1_gain 55 = .ok (.idiv, 1) := dk_108 (dk_at dksX1_gain_2 8 rfl rfl)
theorem dX1_gain_56 : decode cX1_gain 56 = .ok (.ireturn, 1) := dk_172 (dk_at dksX1_gain_2 9 rfl rfl)
theorem dX1_gain_57 : decode cX1_gain 57 = .ok (.aload_n 2, 1) := dk_44 (dk_at dksX1_gain_2 10 rfl rfl)
theorem dX1_gain_58 : decode cX1_gain 58 = .ok (.getfield 139, 3) := dk_180 0 139 (dk_at dksX1_gain_2 11 rfl rfl)
theorem dX1_gain_61 : decode cX1_gain 61 = .ok (.ifCond .eq 21, 3) := dk_153 0 21 (dk_at dksX1_gain_2 14 rfl rfl)
theorem dX1_gain_64 : decode cX1_gain 64 = .ok (.aload_n 2, 1) := dk_44 (dk_at dksX1_gain_2 17 rfl rfl)
theorem dX1_gain_65 : decode cX1_gain 65 = .ok (.getfield 142, 3) := dk_180 0 142 (dk_at dksX1_gain_2 18 rfl rfl)
theorem dX1_gain_68 : decode cX1_gain 68 = .ok (.bipush 100, 2) := dk_16 100 (dk_at dksX1_gain_2 21 rfl rfl)
theorem dX1_gain_70 : decode cX1_gain 70 = .ok (.aload_n 0, 1) := dk_42 (dk_at dksX1_gain_2 23 rfl rfl)
theorem dX1_gain_71 : decode cX1_gain 71 = .ok (.getfield 43, 3) := dk_180 0 43 (dk_at dksX1_gain_3 0 rfl rfl)
theorem dX1_gain_74 : decode cX1_gain 74 = .ok (.isub, 1) := dk_100 (dk_at dksX1_gain_3 3 rfl rfl)
theorem dX1_gain_75 : decode cX1_gain 75 = .ok (.imul, 1) := dk_104 (dk_at dksX1_gain_3 4 rfl rfl)
theorem dX1_gain_76 : decode cX1_gain 76 = .ok (.bipush 100, 2) := dk_16 100 (dk_at dksX1_gain_3 5 rfl rfl)
theorem dX1_gain_78 : decode cX1_gain 78 = .ok (.idiv, 1) := dk_108 (dk_at dksX1_gain_3 7 rfl rfl)
theorem dX1_gain_79 : decode cX1_gain 79 = .ok (.goto 7, 3) := dk_167 0 7 (dk_at dksX1_gain_3 8 rfl rfl)
theorem dX1_gain_82 : decode cX1_gain 82 = .ok (.aload_n 2, 1) := dk_44 (dk_at dksX1_gain_3 11 rfl rfl)
theorem dX1_gain_83 : decode cX1_gain 83 = .ok (.getfield 142, 3) := dk_180 0 142 (dk_at dksX1_gain_3 12 rfl rfl)
theorem dX1_gain_86 : decode cX1_gain 86 = .ok (.ireturn, 1) := dk_172 (dk_at dksX1_gain_3 15 rfl rfl)
abbrev cX1_marked : ByteArray := prog_13_method_8_code
def yX1_marked : MethodName := ⟨RX1, "marked", "()I"⟩
def dkwX1_marked_1 : List UInt8 := [192, 0, 80, 180, 0, 139, 153, 0, 7, 4, 167, 0, 4, 3, 96, 60, 132, 2, 1, 167, 255, 217, 27, 172]
abbrev dktX1_marked_1 : List UInt8 := dkwX1_marked_1 ++ []
def dkwX1_marked_0 : List UInt8 := [3, 60, 3, 61, 28, 42, 180, 0, 23, 182, 0, 72, 162, 0, 34, 27, 42, 180, 0, 23, 28, 182, 0, 76]
abbrev dktX1_marked_0 : List UInt8 := dkwX1_marked_0 ++ dktX1_marked_1
theorem dksX1_marked_0 : cX1_marked.data.toList.drop 0 = dktX1_marked_0 := by decide +kernel
theorem dksX1_marked_1 : cX1_marked.data.toList.drop 24 = dktX1_marked_1 := dk_seg dksX1_marked_0 24 rfl rfl
theorem dX1_marked_0 : decode cX1_marked 0 = .ok (.iconst 0, 1) := dk_3 (dk_at dksX1_marked_0 0 rfl rfl)
theorem dX1_marked_1 : decode cX1_marked 1 = .ok (.istore_n 1, 1) := dk_60 (dk_at dksX1_marked_0 1 rfl rfl)
theorem dX1_marked_2 : decode cX1_marked 2 = .ok (.iconst 0, 1) := dk_3 (dk_at dksX1_marked_0 2 rfl rfl)
theorem dX1_marked_3 : decode cX1_marked 3 = .ok (.istore_n 2, 1) := dk_61 (dk_at dksX1_marked_0 3 rfl rfl)
theorem dX1_marked_4 : decode cX1_marked 4 = .ok (.iload_n 2, 1) := dk_28 (dk_at dksX1_marked_0 4 rfl rfl)
theorem dX1_marked_5 : decode cX1_marked 5 = .ok (.aload_n 0, 1) := dk_42 (dk_at dksX1_marked_0 5 rfl rfl)
theorem dX1_marked_6 : decode cX1_marked 6 = .ok (.getfield 23, 3) := dk_180 0 23 (dk_at dksX1_marked_0 6 rfl rfl)
theorem dX1_marked_9 : decode cX1_marked 9 = .ok (.invokevirtual 72, 3) := dk_182 0 72 (dk_at dksX1_marked_0 9 rfl rfl)
theorem dX1_marked_12 : decode cX1_marked 12 = .ok (.if_icmp .ge 34, 3) := dk_162 0 34 (dk_at dksX1_marked_0 12 rfl rfl)
theorem dX1_marked_15 : decode cX1_marked 15 = .ok (.iload_n 1, 1) := dk_27 (dk_at dksX1_marked_0 15 rfl rfl)
theorem dX1_marked_16 : decode cX1_marked 16 = .ok (.aload_n 0, 1) := dk_42 (dk_at dksX1_marked_0 16 rfl rfl)
theorem dX1_marked_17 : decode cX1_marked 17 = .ok (.getfield 23, 3) := dk_180 0 23 (dk_at dksX1_marked_0 17 rfl rfl)
theorem dX1_marked_20 : decode cX1_marked 20 = .ok (.iload_n 2, 1) := dk_28 (dk_at dksX1_marked_0 20 rfl rfl)
theorem dX1_marked_21 : decode cX1_marked 21 = .ok (.invokevirtual 76, 3) := dk_182 0 76 (dk_at dksX1_marked_0 21 rfl rfl)
theorem dX1_marked_24 : decode cX1_marked 24 = .ok (.checkcast 80, 3) := dk_192 0 80 (dk_at dksX1_marked_1 0 rfl rfl)
theorem dX1_marked_27 : decode cX1_marked 27 = .ok (.getfield 139, 3) := dk_180 0 139 (dk_at dksX1_marked_1 3 rfl rfl)
theorem dX1_marked_30 : decode cX1_marked 30 = .ok (.ifCond .eq 7, 3) := dk_153 0 7 (dk_at dksX1_marked_1 6 rfl rfl)
theorem dX1_marked_33 : decode cX1_marked 33 = .ok (.iconst 1, 1) := dk_4 (dk_at dksX1_marked_1 9 rfl rfl)
theorem dX1_marked_34 : decode cX1_marked 34 = .ok (.goto 4, 3) := dk_167 0 4 (dk_at dksX1_marked_1 10 rfl rfl)
theorem dX1_marked_37 : decode cX1_marked 37 = .ok (.iconst 0, 1) := dk_3 (dk_at dksX1_marked_1 13 rfl rfl)
theorem dX1_marked_38 : decode cX1_marked 38 = .ok (.iadd, 1) := dk_96 (dk_at dksX1_marked_1 14 rfl rfl)
theorem dX1_marked_39 : decode cX1_marked 39 = .ok (.istore_n 1, 1) := dk_60 (dk_at dksX1_marked_1 15 rfl rfl)
theorem dX1_marked_40 : decode cX1_marked 40 = .ok (.iinc 2 1, 3) := dk_132 2 1 (dk_at dksX1_marked_1 16 rfl rfl)
theorem dX1_marked_43 : decode cX1_marked 43 = .ok (.goto (-39), 3) := dk_167 255 217 (dk_at dksX1_marked_1 19 rfl rfl)
theorem dX1_marked_46 : decode cX1_marked 46 = .ok (.iload_n 1, 1) := dk_27 (dk_at dksX1_marked_1 22 rfl rfl)
theorem dX1_marked_47 : decode cX1_marked 47 = .ok (.ireturn, 1) := dk_172 (dk_at dksX1_marked_1 23 rfl rfl)
abbrev cX1_standing : ByteArray := prog_13_method_4_code
def yX1_standing : MethodName := ⟨RX1, "standing", "()I"⟩
def dkwX1_standing_0 : List UInt8 := [42, 180, 0, 23, 182, 0, 72, 42, 180, 0, 90, 199, 0, 7, 3, 167, 0, 4, 4, 96, 172]
abbrev dktX1_standing_0 : List UInt8 := dkwX1_standing_0 ++ []
theorem dksX1_standing_0 : cX1_standing.data.toList.drop 0 = dktX1_standing_0 := by decide +kernel
theorem dX1_standing_0 : decode cX1_standing 0 = .ok (.aload_n 0, 1) := dk_42 (dk_at dksX1_standing_0 0 rfl rfl)
theorem dX1_standing_1 : decode cX1_standing 1 = .ok (.getfield 23, 3) := dk_180 0 23 (dk_at dksX1_standing_0 1 rfl rfl)
theorem dX1_standing_4 : decode cX1_standing 4 = .ok (.invokevirtual 72, 3) := dk_182 0 72 (dk_at dksX1_standing_0 4 rfl rfl)
theorem dX1_standing_7 : decode cX1_standing 7 = .ok (.aload_n 0, 1) := dk_42 (dk_at dksX1_standing_0 7 rfl rfl)
theorem dX1_standing_8 : decode cX1_standing 8 = .ok (.getfield 90, 3) := dk_180 0 90 (dk_at dksX1_standing_0 8 rfl rfl)
theorem dX1_standing_11 : decode cX1_standing 11 = .ok (.ifnonnull 7, 3) := dk_199 0 7 (dk_at dksX1_standing_0 11 rfl rfl)
theorem dX1_standing_14 : decode cX1_standing 14 = .ok (.iconst 0, 1) := dk_3 (dk_at dksX1_standing_0 14 rfl rfl)
theorem dX1_standing_15 : decode cX1_standing 15 = .ok (.goto 4, 3) := dk_167 0 4 (dk_at dksX1_standing_0 15 rfl rfl)
theorem dX1_standing_18 : decode cX1_standing 18 = .ok (.iconst 1, 1) := dk_4 (dk_at dksX1_standing_0 18 rfl rfl)
theorem dX1_standing_19 : decode cX1_standing 19 = .ok (.iadd, 1) := dk_96 (dk_at dksX1_standing_0 19 rfl rfl)
theorem dX1_standing_20 : decode cX1_standing 20 = .ok (.ireturn, 1) := dk_172 (dk_at dksX1_standing_0 20 rfl rfl)
abbrev cX1_paid : ByteArray := prog_13_method_12_code
def yX1_paid : MethodName := ⟨RX1, "paid", "(I)J"⟩
def dkwX1_paid_2 : List UInt8 := [153, 0, 10, 42, 180, 0, 40, 167, 0, 4, 3, 96, 133, 105, 173]
abbrev dktX1_paid_2 : List UInt8 := dkwX1_paid_2 ++ []
def dkwX1_paid_1 : List UInt8 := [167, 0, 20, 42, 180, 0, 20, 44, 180, 0, 116, 182, 0, 76, 192, 0, 119, 180, 0, 153, 44, 180, 0, 139]
abbrev dktX1_paid_1 : List UInt8 := dkwX1_paid_1 ++ dktX1_paid_2
def dkwX1_paid_0 : List UInt8 := [42, 180, 0, 23, 27, 182, 0, 76, 192, 0, 80, 77, 20, 0, 151, 44, 180, 0, 116, 2, 160, 0, 7, 3]
abbrev dktX1_paid_0 : List UInt8 := dkwX1_paid_0 ++ dktX1_paid_1
theorem dksX1_paid_0 : cX1_paid.data.toList.drop 0 = dktX1_paid_0 := by decide +kernel
theorem dksX1_paid_1 : cX1_paid.data.toList.drop 24 = dktX1_paid_1 := dk_seg dksX1_paid_0 24 rfl rfl
theorem dksX1_paid_2 : cX1_paid.data.toList.drop 48 = dktX1_paid_2 := dk_seg dksX1_paid_1 24 rfl rfl
theorem dX1_paid_0 : decode cX1_paid 0 = .ok (.aload_n 0, 1) := dk_42 (dk_at dksX1_paid_0 0 rfl rfl)
theorem dX1_paid_1 : decode cX1_paid 1 = .ok (.getfield 23, 3) := dk_180 0 23 (dk_at dksX1_paid_0 1 rfl rfl)
theorem dX1_paid_4 : decode cX1_paid 4 = .ok (.iload_n 1, 1) := dk_27 (dk_at dksX1_paid_0 4 rfl rfl)
theorem dX1_paid_5 : decode cX1_paid 5 = .ok (.invokevirtual 76, 3) := dk_182 0 76 (dk_at dksX1_paid_0 5 rfl rfl)
theorem dX1_paid_8 : decode cX1_paid 8 = .ok (.checkcast 80, 3) := dk_192 0 80 (dk_at dksX1_paid_0 8 rfl rfl)
theorem dX1_paid_11 : decode cX1_paid 11 = .ok (.astore_n 2, 1) := dk_77 (dk_at dksX1_paid_0 11 rfl rfl)
theorem dX1_paid_12 : decode cX1_paid 12 = .ok (.ldc2_w 151, 3) := dk_20 0 151 (dk_at dksX1_paid_0 12 rfl rfl)
theorem dX1_paid_15 : decode cX1_paid 15 = .ok (.aload_n 2, 1) := dk_44 (dk_at dksX1_paid_0 15 rfl rfl)
theorem dX1_paid_16 : decode cX1_paid 16 = .ok (.getfield 116, 3) := dk_180 0 116 (dk_at dksX1_paid_0 16 rfl rfl)
theorem dX1_paid_19 : decode cX1_paid 19 = .ok (.iconst (-1), 1) := dk_2 (dk_at dksX1_paid_0 19 rfl rfl)
theorem dX1_paid_20 : decode cX1_paid 20 = .ok (.if_icmp .ne 7, 3) := dk_160 0 7 (dk_at dksX1_paid_0 20 rfl rfl)
theorem dX1_paid_23 : decode cX1_paid 23 = .ok (.iconst 0, 1) := dk_3 (dk_at dksX1_paid_0 23 rfl rfl)
theorem dX1_paid_24 : decode cX1_paid 24 = .ok (.goto 20, 3) := dk_167 0 20 (dk_at dksX1_paid_1 0 rfl rfl)
theorem dX1_paid_27 : decode cX1_paid 27 = .ok (.aload_n 0, 1) := dk_42 (dk_at dksX1_paid_1 3 rfl rfl)
theorem dX1_paid_28 : decode cX1_paid 28 = .ok (.getfield 20, 3) := dk_180 0 20 (dk_at dksX1_paid_1 4 rfl rfl)
theorem dX1_paid_31 : decode cX1_paid 31 = .ok (.aload_n 2, 1) := dk_44 (dk_at dksX1_paid_1 7 rfl rfl)
theorem dX1_paid_32 : decode cX1_paid 32 = .ok (.getfield 116, 3) := dk_180 0 116 (dk_at dksX1_paid_1 8 rfl rfl)
theorem dX1_paid_35 : decode cX1_paid 35 = .ok (.invokevirtual 76, 3) := dk_182 0 76 (dk_at dksX1_paid_1 11 rfl rfl)
theorem dX1_paid_38 : decode cX1_paid 38 = .ok (.checkcast 119, 3) := dk_192 0 119 (dk_at dksX1_paid_1 14 rfl rfl)
theorem dX1_paid_41 : decode cX1_paid 41 = .ok (.getfield 153, 3) := dk_180 0 153 (dk_at dksX1_paid_1 17 rfl rfl)
theorem dX1_paid_44 : decode cX1_paid 44 = .ok (.aload_n 2, 1) := dk_44 (dk_at dksX1_paid_1 20 rfl rfl)
theorem dX1_paid_45 : decode cX1_paid 45 = .ok (.getfield 139, 3) := dk_180 0 139 (dk_at dksX1_paid_1 21 rfl rfl)
theorem dX1_paid_48 : decode cX1_paid 48 = .ok (.ifCond .eq 10, 3) := dk_153 0 10 (dk_at dksX1_paid_2 0 rfl rfl)
theorem dX1_paid_51 : decode cX1_paid 51 = .ok (.aload_n 0, 1) := dk_42 (dk_at dksX1_paid_2 3 rfl rfl)
theorem dX1_paid_52 : decode cX1_paid 52 = .ok (.getfield 40, 3) := dk_180 0 40 (dk_at dksX1_paid_2 4 rfl rfl)
theorem dX1_paid_55 : decode cX1_paid 55 = .ok (.goto 4, 3) := dk_167 0 4 (dk_at dksX1_paid_2 7 rfl rfl)
theorem dX1_paid_58 : decode cX1_paid 58 = .ok (.iconst 0, 1) := dk_3 (dk_at dksX1_paid_2 10 rfl rfl)
theorem dX1_paid_59 : decode cX1_paid 59 = .ok (.iadd, 1) := dk_96 (dk_at dksX1_paid_2 11 rfl rfl)
theorem dX1_paid_60 : decode cX1_paid 60 = .ok (.i2l, 1) := dk_133 (dk_at dksX1_paid_2 12 rfl rfl)
theorem dX1_paid_61 : decode cX1_paid 61 = .ok (.lmul, 1) := dk_105 (dk_at dksX1_paid_2 13 rfl rfl)
theorem dX1_paid_62 : decode cX1_paid 62 = .ok (.lreturn, 1) := dk_173 (dk_at dksX1_paid_2 14 rfl rfl)
abbrev cX1_wages : ByteArray := prog_13_method_13_code
def yX1_wages : MethodName := ⟨RX1, "wages", "()J"⟩
def dkwX1_wages_0 : List UInt8 := [20, 0, 151, 42, 180, 0, 46, 133, 105, 42, 180, 0, 37, 133, 105, 173]
abbrev dktX1_wages_0 : List UInt8 := dkwX1_wages_0 ++ []
theorem dksX1_wages_0 : cX1_wages.data.toList.drop 0 = dktX1_wages_0 := by decide +kernel
theorem dX1_wages_0 : decode cX1_wages 0 = .ok (.ldc2_w 151, 3) := dk_20 0 151 (dk_at dksX1_wages_0 0 rfl rfl)
theorem dX1_wages_3 : decode cX1_wages 3 = .ok (.aload_n 0, 1) := dk_42 (dk_at dksX1_wages_0 3 rfl rfl)
theorem dX1_wages_4 : decode cX1_wages 4 = .ok (.getfield 46, 3) := dk_180 0 46 (dk_at dksX1_wages_0 4 rfl rfl)
theorem dX1_wages_7 : decode cX1_wages 7 = .ok (.i2l, 1) := dk_133 (dk_at dksX1_wages_0 7 rfl rfl)
theorem dX1_wages_8 : decode cX1_wages 8 = .ok (.lmul, 1) := dk_105 (dk_at dksX1_wages_0 8 rfl rfl)
theorem dX1_wages_9 : decode cX1_wages 9 = .ok (.aload_n 0, 1) := dk_42 (dk_at dksX1_wages_0 9 rfl rfl)
theorem dX1_wages_10 : decode cX1_wages 10 = .ok (.getfield 37, 3) := dk_180 0 37 (dk_at dksX1_wages_0 10 rfl rfl)
theorem dX1_wages_13 : decode cX1_wages 13 = .ok (.i2l, 1) := dk_133 (dk_at dksX1_wages_0 13 rfl rfl)
theorem dX1_wages_14 : decode cX1_wages 14 = .ok (.lmul, 1) := dk_105 (dk_at dksX1_wages_0 14 rfl rfl)
theorem dX1_wages_15 : decode cX1_wages 15 = .ok (.lreturn, 1) := dk_173 (dk_at dksX1_wages_0 15 rfl rfl)
abbrev cX1_options : ByteArray := prog_13_method_11_code
def yX1_options : MethodName := ⟨RX1, "options", "()I"⟩
def dkwX1_options_0 : List UInt8 := [5, 42, 180, 0, 20, 182, 0, 72, 104, 5, 96, 172]
abbrev dktX1_options_0 : List UInt8 := dkwX1_options_0 ++ []
theorem dksX1_options_0 : cX1_options.data.toList.drop 0 = dktX1_options_0 := by decide +kernel
theorem dX1_options_0 : decode cX1_options 0 = .ok (.iconst 2, 1) := dk_5 (dk_at dksX1_options_0 0 rfl rfl)
theorem dX1_options_1 : decode cX1_options 1 = .ok (.aload_n 0, 1) := dk_42 (dk_at dksX1_options_0 1 rfl rfl)
theorem dX1_options_2 : decode cX1_options 2 = .ok (.getfield 20, 3) := dk_180 0 20 (dk_at dksX1_options_0 2 rfl rfl)
theorem dX1_options_5 : decode cX1_options 5 = .ok (.invokevirtual 72, 3) := dk_182 0 72 (dk_at dksX1_options_0 5 rfl rfl)
theorem dX1_options_8 : decode cX1_options 8 = .ok (.imul, 1) := dk_104 (dk_at dksX1_options_0 8 rfl rfl)
theorem dX1_options_9 : decode cX1_options 9 = .ok (.iconst 2, 1) := dk_5 (dk_at dksX1_options_0 9 rfl rfl)
theorem dX1_options_10 : decode cX1_options 10 = .ok (.iadd, 1) := dk_96 (dk_at dksX1_options_0 10 rfl rfl)
theorem dX1_options_11 : decode cX1_options 11 = .ok (.ireturn, 1) := dk_172 (dk_at dksX1_options_0 11 rfl rfl)
abbrev cX1_copy : ByteArray := prog_13_method_2_code
def yX1_copy : MethodName := ⟨RX1, "copy", "()LLockRail$Rail;"⟩
def dkwX1_copy_7 : List UInt8 := [180, 0, 26, 182, 0, 68, 87, 43, 176]
abbrev dktX1_copy_7 : List UInt8 := dkwX1_copy_7 ++ []
def dkwX1_copy_6 : List UInt8 := [182, 0, 76, 192, 0, 80, 182, 0, 82, 182, 0, 86, 87, 132, 2, 1, 167, 255, 220, 43, 180, 0, 26, 42]
abbrev dktX1_copy_6 : List UInt8 := dkwX1_copy_6 ++ dktX1_copy_7
def dkwX1_copy_5 : List UInt8 := [3, 61, 28, 42, 180, 0, 23, 182, 0, 72, 162, 0, 31, 43, 180, 0, 23, 42, 180, 0, 23, 28]
abbrev dktX1_copy_5 : List UInt8 := dkwX1_copy_5 ++ dktX1_copy_6
def dkwX1_copy_4 : List UInt8 := [43, 180, 0, 14, 42, 180, 0, 14, 182, 0, 68, 87, 43, 180, 0, 20, 42, 180, 0, 20, 182, 0, 68, 87]
abbrev dktX1_copy_4 : List UInt8 := dkwX1_copy_4 ++ dktX1_copy_5
def dkwX1_copy_3 : List UInt8 := [43, 42, 180, 0, 59, 181, 0, 59, 43, 42, 180, 0, 62, 181, 0, 62, 43, 42, 180, 0, 65, 181, 0, 65]
abbrev dktX1_copy_3 : List UInt8 := dkwX1_copy_3 ++ dktX1_copy_4
def dkwX1_copy_2 : List UInt8 := [43, 42, 180, 0, 49, 181, 0, 49, 43, 42, 180, 0, 52, 181, 0, 52, 43, 42, 180, 0, 55, 181, 0, 55]
abbrev dktX1_copy_2 : List UInt8 := dkwX1_copy_2 ++ dktX1_copy_3
def dkwX1_copy_1 : List UInt8 := [43, 42, 180, 0, 40, 181, 0, 40, 43, 42, 180, 0, 43, 181, 0, 43, 43, 42, 180, 0, 46, 181, 0, 46]
abbrev dktX1_copy_1 : List UInt8 := dkwX1_copy_1 ++ dktX1_copy_2
def dkwX1_copy_0 : List UInt8 := [187, 0, 15, 89, 183, 0, 33, 76, 43, 42, 180, 0, 34, 181, 0, 34, 43, 42, 180, 0, 37, 181, 0, 37]
abbrev dktX1_copy_0 : List UInt8 := dkwX1_copy_0 ++ dktX1_copy_1
theorem dksX1_copy_0 : cX1_copy.data.toList.drop 0 = dktX1_copy_0 := by decide +kernel
theorem dksX1_copy_1 : cX1_copy.data.toList.drop 24 = dktX1_copy_1 := dk_seg dksX1_copy_0 24 rfl rfl
theorem dksX1_copy_2 : cX1_copy.data.toList.drop 48 = dktX1_copy_2 := dk_seg dksX1_copy_1 24 rfl rfl
theorem dksX1_copy_3 : cX1_copy.data.toList.drop 72 = dktX1_copy_3 := dk_seg dksX1_copy_2 24 rfl rfl
theorem dksX1_copy_4 : cX1_copy.data.toList.drop 96 = dktX1_copy_4 := dk_seg dksX1_copy_3 24 rfl rfl
theorem dksX1_copy_5 : cX1_copy.data.toList.drop 120 = dktX1_copy_5 := dk_seg dksX1_copy_4 24 rfl rfl
theorem dksX1_copy_6 : cX1_copy.data.toList.drop 142 = dktX1_copy_6 := dk_seg dksX1_copy_5 22 rfl rfl
theorem dksX1_copy_7 : cX1_copy.data.toList.drop 166 = dktX1_copy_7 := dk_seg dksX1_copy_6 24 rfl rfl
theorem dX1_copy_0 : decode cX1_copy 0 = .ok (.new 15, 3) := dk_187 0 15 (dk_at dksX1_copy_0 0 rfl rfl)
theorem dX1_copy_3 : decode cX1_copy 3 = .ok (.dup, 1) := dk_89 (dk_at dksX1_copy_0 3 rfl rfl)
theorem dX1_copy_4 : decode cX1_copy 4 = .ok (.invokespecial 33, 3) := dk_183 0 33 (dk_at dksX1_copy_0 4 rfl rfl)
theorem dX1_copy_7 : decode cX1_copy 7 = .ok (.astore_n 1, 1) := dk_76 (dk_at dksX1_copy_0 7 rfl rfl)
theorem dX1_copy_8 : decode cX1_copy 8 = .ok (.aload_n 1, 1) := dk_43 (dk_at dksX1_copy_0 8 rfl rfl)
theorem dX1_copy_9 : decode cX1_copy 9 = .ok (.aload_n 0, 1) := dk_42 (dk_at dksX1_copy_0 9 rfl rfl)
theorem dX1_copy_10 : decode cX1_copy 10 = .ok (.getfield 34, 3) := dk_180 0 34 (dk_at dksX1_copy_0 10 rfl rfl)
theorem dX1_copy_13 : decode cX1_copy 13 = .ok (.putfield 34, 3) := dk_181 0 34 (dk_at dksX1_copy_0 13 rfl rfl)
theorem dX1_copy_16 : decode cX1_copy 16 = .ok (.aload_n 1, 1) := dk_43 (dk_at dksX1_copy_0 16 rfl rfl)
theorem dX1_copy_17 : decode cX1_copy 17 = .ok (.aload_n 0, 1) := dk_42 (dk_at dksX1_copy_0 17 rfl rfl)
theorem dX1_copy_18 : decode cX1_copy 18 = .ok (.getfield 37, 3) := dk_180 0 37 (dk_at dksX1_copy_0 18 rfl rfl)
theorem dX1_copy_21 : decode cX1_copy 21 = .ok (.putfield 37, 3) := dk_181 0 37 (dk_at dksX1_copy_0 21 rfl rfl)
theorem dX1_copy_24 : decode cX1_copy 24 = .ok (.aload_n 1, 1) := dk_43 (dk_at dksX1_copy_1 0 rfl rfl)
theorem dX1_copy_25 : decode cX1_copy 25 = .ok (.aload_n 0, 1) := dk_42 (dk_at dksX1_copy_1 1 rfl rfl)
theorem dX1_copy_26 : decode cX1_copy 26 = .ok (.getfield 40, 3) := dk_180 0 40 (dk_at dksX1_copy_1 2 rfl rfl)
theorem dX1_copy_29 : decode cX1_copy 29 = .ok (.putfield 40, 3) := dk_181 0 40 (dk_at dksX1_copy_1 5 rfl rfl)
theorem dX1_copy_32 : decode cX1_copy 32 = .ok (.aload_n 1, 1) := dk_43 (dk_at dksX1_copy_1 8 rfl rfl)
theorem dX1_copy_33 : decode cX1_copy 33 = .ok (.aload_n 0, 1) := dk_42 (dk_at dksX1_copy_1 9 rfl rfl)
theorem dX1_copy_34 : decode cX1_copy 34 = .ok (.getfield 43, 3) := dk_180 0 43 (dk_at dksX1_copy_1 10 rfl rfl)
theorem dX1_copy_37 : decode cX1_copy 37 = .ok (.putfield 43, 3) := dk_181 0 43 (dk_at dksX1_copy_1 13 rfl rfl)
theorem dX1_copy_40 : decode cX1_copy 40 = .ok (.aload_n 1, 1) := dk_43 (dk_at dksX1_copy_1 16 rfl rfl)
theorem dX1_copy_41 : decode cX1_copy 41 = .ok (.aload_n 0, 1) := dk_42 (dk_at dksX1_copy_1 17 rfl rfl)
theorem dX1_copy_42 : decode cX1_copy 42 = .ok (.getfield 46, 3) := dk_180 0 46 (dk_at dksX1_copy_1 18 rfl rfl)
theorem dX1_copy_45 : decode cX1_copy 45 = .ok (.putfield 46, 3) := dk_181 0 46 (dk_at dksX1_copy_1 21 rfl rfl)
theorem dX1_copy_48 : decode cX1_copy 48 = .ok (.aload_n 1, 1) := dk_43 (dk_at dksX1_copy_2 0 rfl rfl)
theorem dX1_copy_49 : decode cX1_copy 49 = .ok (.aload_n 0, 1) := dk_42 (dk_at dksX1_copy_2 1 rfl rfl)
theorem dX1_copy_50 : decode cX1_copy 50 = .ok (.getfield 49, 3) := dk_180 0 49 (dk_at dksX1_copy_2 2 rfl rfl)
theorem dX1_copy_53 : decode cX1_copy 53 = .ok (.putfield 49, 3) := dk_181 0 49 (dk_at dksX1_copy_2 5 rfl rfl)
theorem dX1_copy_56 : decode cX1_copy 56 = .ok (.aload_n 1, 1) := dk_43 (dk_at dksX1_copy_2 8 rfl rfl)
theorem dX1_copy_57 : decode cX1_copy 57 = .ok (.aload_n 0, 1) := dk_42 (dk_at dksX1_copy_2 9 rfl rfl)
theorem dX1_copy_58 : decode cX1_copy 58 = .ok (.getfield 52, 3) := dk_180 0 52 (dk_at dksX1_copy_2 10 rfl rfl)
theorem dX1_copy_61 : decode cX1_copy 61 = .ok (.putfield 52, 3) := dk_181 0 52 (dk_at dksX1_copy_2 13 rfl rfl)
theorem dX1_copy_64 : decode cX1_copy 64 = .ok (.aload_n 1, 1) := dk_43 (dk_at dksX1_copy_2 16 rfl rfl)
theorem dX1_copy_65 : decode cX1_copy 65 = .ok (.aload_n 0, 1) := dk_42 (dk_at dksX1_copy_2 17 rfl rfl)
theorem dX1_copy_66 : decode cX1_copy 66 = .ok (.getfield 55, 3) := dk_180 0 55 (dk_at dksX1_copy_2 18 rfl rfl)
theorem dX1_copy_69 : decode cX1_copy 69 = .ok (.putfield 55, 3) := dk_181 0 55 (dk_at dksX1_copy_2 21 rfl rfl)
theorem dX1_copy_72 : decode cX1_copy 72 = .ok (.aload_n 1, 1) := dk_43 (dk_at dksX1_copy_3 0 rfl rfl)
theorem dX1_copy_73 : decode cX1_copy 73 = .ok (.aload_n 0, 1) := dk_42 (dk_at dksX1_copy_3 1 rfl rfl)
theorem dX1_copy_74 : decode cX1_copy 74 = .ok (.getfield 59, 3) := dk_180 0 59 (dk_at dksX1_copy_3 2 rfl rfl)
theorem dX1_copy_77 : decode cX1_copy 77 = .ok (.putfield 59, 3) := dk_181 0 59 (dk_at dksX1_copy_3 5 rfl rfl)
theorem dX1_copy_80 : decode cX1_copy 80 = .ok (.aload_n 1, 1) := dk_43 (dk_at dksX1_copy_3 8 rfl rfl)
theorem dX1_copy_81 : decode cX1_copy 81 = .ok (.aload_n 0, 1) := dk_42 (dk_at dksX1_copy_3 9 rfl rfl)
theorem dX1_copy_82 : decode cX1_copy 82 = .ok (.getfield 62, 3) := dk_180 0 62 (dk_at dksX1_copy_3 10 rfl rfl)
theorem dX1_copy_85 : decode cX1_copy 85 = .ok (.putfield 62, 3) := dk_181 0 62 (dk_at dksX1_copy_3 13 rfl rfl)
theorem dX1_copy_88 : decode cX1_copy 88 = .ok (.aload_n 1, 1) := dk_43 (dk_at dksX1_copy_3 16 rfl rfl)
theorem dX1_copy_89 : decode cX1_copy 89 = .ok (.aload_n 0, 1) := dk_42 (dk_at dksX1_copy_3 17 rfl rfl)
theorem dX1_copy_90 : decode cX1_copy 90 = .ok (.getfield 65, 3) := dk_180 0 65 (dk_at dksX1_copy_3 18 rfl rfl)
theorem dX1_copy_93 : decode cX1_copy 93 = .ok (.putfield 65, 3) := dk_181 0 65 (dk_at dksX1_copy_3 21 rfl rfl)
theorem dX1_copy_96 : decode cX1_copy 96 = .ok (.aload_n 1, 1) := dk_43 (dk_at dksX1_copy_4 0 rfl rfl)
theorem dX1_copy_97 : decode cX1_copy 97 = .ok (.getfield 14, 3) := dk_180 0 14 (dk_at dksX1_copy_4 1 rfl rfl)
theorem dX1_copy_100 : decode cX1_copy 100 = .ok (.aload_n 0, 1) := dk_42 (dk_at dksX1_copy_4 4 rfl rfl)
theorem dX1_copy_101 : decode cX1_copy 101 = .ok (.getfield 14, 3) := dk_180 0 14 (dk_at dksX1_copy_4 5 rfl rfl)
theorem dX1_copy_104 : decode cX1_copy 104 = .ok (.invokevirtual 68, 3) := dk_182 0 68 (dk_at dksX1_copy_4 8 rfl rfl)
theorem dX1_copy_107 : decode cX1_copy 107 = .ok (.pop, 1) := dk_87 (dk_at dksX1_copy_4 11 rfl rfl)
theorem dX1_copy_108 : decode cX1_copy 108 = .ok (.aload_n 1, 1) := dk_43 (dk_at dksX1_copy_4 12 rfl rfl)
theorem dX1_copy_109 : decode cX1_copy 109 = .ok (.getfield 20, 3) := dk_180 0 20 (dk_at dksX1_copy_4 13 rfl rfl)
theorem dX1_copy_112 : decode cX1_copy 112 = .ok (.aload_n 0, 1) := dk_42 (dk_at dksX1_copy_4 16 rfl rfl)
theorem dX1_copy_113 : decode cX1_copy 113 = .ok (.getfield 20, 3) := dk_180 0 20 (dk_at dksX1_copy_4 17 rfl rfl)
theorem dX1_copy_116 : decode cX1_copy 116 = .ok (.invokevirtual 68, 3) := dk_182 0 68 (dk_at dksX1_copy_4 20 rfl rfl)
theorem dX1_copy_119 : decode cX1_copy 119 = .ok (.pop, 1) := dk_87 (dk_at dksX1_copy_4 23 rfl rfl)
theorem dX1_copy_120 : decode cX1_copy 120 = .ok (.iconst 0, 1) := dk_3 (dk_at dksX1_copy_5 0 rfl rfl)
theorem dX1_copy_121 : decode cX1_copy 121 = .ok (.istore_n 2, 1) := dk_61 (dk_at dksX1_copy_5 1 rfl rfl)
theorem dX1_copy_122 : decode cX1_copy 122 = .ok (.iload_n 2, 1) := dk_28 (dk_at dksX1_copy_5 2 rfl rfl)
theorem dX1_copy_123 : decode cX1_copy 123 = .ok (.aload_n 0, 1) := dk_42 (dk_at dksX1_copy_5 3 rfl rfl)
theorem dX1_copy_124 : decode cX1_copy 124 = .ok (.getfield 23, 3) := dk_180 0 23 (dk_at dksX1_copy_5 4 rfl rfl)
theorem dX1_copy_127 : decode cX1_copy 127 = .ok (.invokevirtual 72, 3) := dk_182 0 72 (dk_at dksX1_copy_5 7 rfl rfl)
theorem dX1_copy_130 : decode cX1_copy 130 = .ok (.if_icmp .ge 31, 3) := dk_162 0 31 (dk_at dksX1_copy_5 10 rfl rfl)
theorem dX1_copy_133 : decode cX1_copy 133 = .ok (.aload_n 1, 1) := dk_43 (dk_at dksX1_copy_5 13 rfl rfl)
theorem dX1_copy_134 : decode cX1_copy 134 = .ok (.getfield 23, 3) := dk_180 0 23 (dk_at dksX1_copy_5 14 rfl rfl)
theorem dX1_copy_137 : decode cX1_copy 137 = .ok (.aload_n 0, 1) := dk_42 (dk_at dksX1_copy_5 17 rfl rfl)
theorem dX1_copy_138 : decode cX1_copy 138 = .ok (.getfield 23, 3) := dk_180 0 23 (dk_at dksX1_copy_5 18 rfl rfl)
theorem dX1_copy_141 : decode cX1_copy 141 = .ok (.iload_n 2, 1) := dk_28 (dk_at dksX1_copy_5 21 rfl rfl)
theorem dX1_copy_142 : decode cX1_copy 142 = .ok (.invokevirtual 76, 3) := dk_182 0 76 (dk_at dksX1_copy_6 0 rfl rfl)
theorem dX1_copy_145 : decode cX1_copy 145 = .ok (.checkcast 80, 3) := dk_192 0 80 (dk_at dksX1_copy_6 3 rfl rfl)
theorem dX1_copy_148 : decode cX1_copy 148 = .ok (.invokevirtual 82, 3) := dk_182 0 82 (dk_at dksX1_copy_6 6 rfl rfl)
theorem dX1_copy_151 : decode cX1_copy 151 = .ok (.invokevirtual 86, 3) := dk_182 0 86 (dk_at dksX1_copy_6 9 rfl rfl)
theorem dX1_copy_154 : decode cX1_copy 154 = .ok (.pop, 1) := dk_87 (dk_at dksX1_copy_6 12 rfl rfl)
theorem dX1_copy_155 : decode cX1_copy 155 = .ok (.iinc 2 1, 3) := dk_132 2 1 (dk_at dksX1_copy_6 13 rfl rfl)
theorem dX1_copy_158 : decode cX1_copy 158 = .ok (.goto (-36), 3) := dk_167 255 220 (dk_at dksX1_copy_6 16 rfl rfl)
theorem dX1_copy_161 : decode cX1_copy 161 = .ok (.aload_n 1, 1) := dk_43 (dk_at dksX1_copy_6 19 rfl rfl)
theorem dX1_copy_162 : decode cX1_copy 162 = .ok (.getfield 26, 3) := dk_180 0 26 (dk_at dksX1_copy_6 20 rfl rfl)
theorem dX1_copy_165 : decode cX1_copy 165 = .ok (.aload_n 0, 1) := dk_42 (dk_at dksX1_copy_6 23 rfl rfl)
theorem dX1_copy_166 : decode cX1_copy 166 = .ok (.getfield 26, 3) := dk_180 0 26 (dk_at dksX1_copy_7 0 rfl rfl)
theorem dX1_copy_169 : decode cX1_copy 169 = .ok (.invokevirtual 68, 3) := dk_182 0 68 (dk_at dksX1_copy_7 3 rfl rfl)
theorem dX1_copy_172 : decode cX1_copy 172 = .ok (.pop, 1) := dk_87 (dk_at dksX1_copy_7 6 rfl rfl)
theorem dX1_copy_173 : decode cX1_copy 173 = .ok (.aload_n 1, 1) := dk_43 (dk_at dksX1_copy_7 7 rfl rfl)
theorem dX1_copy_174 : decode cX1_copy 174 = .ok (.areturn, 1) := dk_176 (dk_at dksX1_copy_7 8 rfl rfl)
theorem q141 : (Jvm.Cond.initialized "LockRail$Rail") ∈ lw_all := lw_g (lw_at lw_m1 2 rfl) rfl
theorem q190 : (Jvm.Cond.instantiable "LockRail$Rail" (18 : Nat)) ∈ lw_all := lw_g (lw_at lw_m1 51 rfl) rfl
theorem q192 : (Jvm.Cond.instanceMethod ({ cls := "LockRail$Rail", name := "<init>", desc := "()V" } : Jvm.MethodName)) ∈ lw_all := lw_g (lw_at lw_m1 53 rfl) rfl
theorem q193 : (Jvm.Cond.code ({ cls := "LockRail$Rail", name := "<init>", desc := "()V" } : Jvm.MethodName) prog_13_method_1_code (1 : Nat) (Option.none : Option Jvm.ClassFile.FieldType)) ∈ lw_all := lw_g (lw_at lw_m1 54 rfl) rfl
theorem q194 : (Jvm.Cond.methodLink "LockRail$Rail" (3 : Nat) ({ cls := "java/lang/Object", name := "<init>", desc := "()V" } : Jvm.MethodName)) ∈ lw_all := lw_g (lw_at lw_m1 55 rfl) rfl
theorem q195 : (Jvm.Cond.classLink "LockRail$Rail" (9 : Nat) "java/util/ArrayList") ∈ lw_all := lw_g (lw_at lw_m1 56 rfl) rfl
theorem q197 : (Jvm.Cond.methodLink "LockRail$Rail" (11 : Nat) ({ cls := "java/util/ArrayList", name := "<init>", desc := "(I)V" } : Jvm.MethodName)) ∈ lw_all := lw_g (lw_at lw_m1 58 rfl) rfl
theorem q223 : (Jvm.Cond.fieldLink "LockRail$Rail" (34 : Nat) "LockRail$Rail" "places" "I") ∈ lw_all := lw_g (lw_at lw_m1 84 rfl) rfl
theorem q226 : (Jvm.Cond.fieldLink "LockRail$Rail" (37 : Nat) "LockRail$Rail" "nights" "I") ∈ lw_all := lw_g (lw_at lw_m1 87 rfl) rfl
theorem q232 : (Jvm.Cond.fieldLink "LockRail$Rail" (40 : Nat) "LockRail$Rail" "markPrice" "I") ∈ lw_all := lw_g (lw_at lw_m1 93 rfl) rfl
theorem q234 : (Jvm.Cond.fieldLink "LockRail$Rail" (43 : Nat) "LockRail$Rail" "known" "I") ∈ lw_all := lw_g (lw_at lw_m1 95 rfl) rfl
theorem q236 : (Jvm.Cond.fieldLink "LockRail$Rail" (46 : Nat) "LockRail$Rail" "wage" "I") ∈ lw_all := lw_g (lw_at lw_m1 97 rfl) rfl
theorem q238 : (Jvm.Cond.fieldLink "LockRail$Rail" (49 : Nat) "LockRail$Rail" "adds" "I") ∈ lw_all := lw_g (lw_at lw_m1 99 rfl) rfl
theorem q240 : (Jvm.Cond.fieldLink "LockRail$Rail" (52 : Nat) "LockRail$Rail" "lines" "I") ∈ lw_all := lw_g (lw_at lw_m1 101 rfl) rfl
theorem q243 : (Jvm.Cond.fieldLink "LockRail$Rail" (55 : Nat) "LockRail$Rail" "isHidden" "Z") ∈ lw_all := lw_g (lw_at lw_m1 104 rfl) rfl
theorem q245 : (Jvm.Cond.fieldLink "LockRail$Rail" (59 : Nat) "LockRail$Rail" "hasMark" "Z") ∈ lw_all := lw_g (lw_at lw_m1 106 rfl) rfl
theorem q247 : (Jvm.Cond.fieldLink "LockRail$Rail" (62 : Nat) "LockRail$Rail" "hasWatch" "Z") ∈ lw_all := lw_g (lw_at lw_m1 108 rfl) rfl
theorem q250 : (Jvm.Cond.fieldLink "LockRail$Rail" (65 : Nat) "LockRail$Rail" "isWatched" "Z") ∈ lw_all := lw_g (lw_at lw_m1 111 rfl) rfl
theorem q252 : (Jvm.Cond.fieldLink "LockRail$Rail" (14 : Nat) "LockRail$Rail" "lamps" "Ljava/util/ArrayList;") ∈ lw_all := lw_g (lw_at lw_m1 113 rfl) rfl
theorem q255 : (Jvm.Cond.fieldLink "LockRail$Rail" (20 : Nat) "LockRail$Rail" "locks" "Ljava/util/ArrayList;") ∈ lw_all := lw_g (lw_at lw_m1 116 rfl) rfl
theorem q258 : (Jvm.Cond.fieldLink "LockRail$Rail" (23 : Nat) "LockRail$Rail" "bikes" "Ljava/util/ArrayList;") ∈ lw_all := lw_g (lw_at lw_m1 119 rfl) rfl
theorem q264 : (Jvm.Cond.fieldLink "LockRail$Rail" (26 : Nat) "LockRail$Rail" "thieves" "Ljava/util/ArrayList;") ∈ lw_all := lw_g (lw_at lw_m1 125 rfl) rfl
theorem q270 : (Jvm.Cond.fieldLink "LockRail$Rail" (90 : Nat) "LockRail$Rail" "bait" "LLockRail$Bike;") ∈ lw_all := lw_g (lw_at lw_m1 131 rfl) rfl
theorem q272 : (Jvm.Cond.fieldLink "LockRail$Rail" (29 : Nat) "LockRail$Rail" "triedAt" "I") ∈ lw_all := lw_g (lw_at lw_m1 133 rfl) rfl
theorem q274 : (Jvm.Cond.fieldLink "LockRail$Rail" (100 : Nat) "LockRail$Rail" "triedBright" "I") ∈ lw_all := lw_g (lw_at lw_m1 135 rfl) rfl
theorem q276 : (Jvm.Cond.lays "LockRail$Rail" "LockRail$Rail" "places" "I") ∈ lw_all := lw_g (lw_at lw_m1 137 rfl) rfl
theorem q277 : (Jvm.Cond.soleField "LockRail$Rail" "places") ∈ lw_all := lw_g (lw_at lw_m1 138 rfl) rfl
theorem q278 : (Jvm.Cond.lays "LockRail$Rail" "LockRail$Rail" "nights" "I") ∈ lw_all := lw_g (lw_at lw_m1 139 rfl) rfl
theorem q279 : (Jvm.Cond.soleField "LockRail$Rail" "nights") ∈ lw_all := lw_g (lw_at lw_m1 140 rfl) rfl
theorem q280 : (Jvm.Cond.lays "LockRail$Rail" "LockRail$Rail" "markPrice" "I") ∈ lw_all := lw_g (lw_at lw_m1 141 rfl) rfl
theorem q281 : (Jvm.Cond.soleField "LockRail$Rail" "markPrice") ∈ lw_all := lw_g (lw_at lw_m1 142 rfl) rfl
theorem q282 : (Jvm.Cond.lays "LockRail$Rail" "LockRail$Rail" "known" "I") ∈ lw_all := lw_g (lw_at lw_m1 143 rfl) rfl
theorem q283 : (Jvm.Cond.soleField "LockRail$Rail" "known") ∈ lw_all := lw_g (lw_at lw_m1 144 rfl) rfl
theorem q284 : (Jvm.Cond.lays "LockRail$Rail" "LockRail$Rail" "wage" "I") ∈ lw_all := lw_g (lw_at lw_m1 145 rfl) rfl
theorem q285 : (Jvm.Cond.soleField "LockRail$Rail" "wage") ∈ lw_all := lw_g (lw_at lw_m1 146 rfl) rfl
theorem q286 : (Jvm.Cond.lays "LockRail$Rail" "LockRail$Rail" "adds" "I") ∈ lw_all := lw_g (lw_at lw_m1 147 rfl) rfl
theorem q287 : (Jvm.Cond.soleField "LockRail$Rail" "adds") ∈ lw_all := lw_g (lw_at lw_m1 148 rfl) rfl
theorem q288 : (Jvm.Cond.lays "LockRail$Rail" "LockRail$Rail" "lines" "I") ∈ lw_all := lw_g (lw_at lw_m1 149 rfl) rfl
theorem q289 : (Jvm.Cond.soleField "LockRail$Rail" "lines") ∈ lw_all := lw_g (lw_at lw_m1 150 rfl) rfl
theorem q290 : (Jvm.Cond.lays "LockRail$Rail" "LockRail$Rail" "isHidden" "Z") ∈ lw_all := lw_g (lw_at lw_m1 151 rfl) rfl
theorem q291 : (Jvm.Cond.soleField "LockRail$Rail" "isHidden") ∈ lw_all := lw_g (lw_at lw_m1 152 rfl) rfl
theorem q292 : (Jvm.Cond.lays "LockRail$Rail" "LockRail$Rail" "hasMark" "Z") ∈ lw_all := lw_g (lw_at lw_m1 153 rfl) rfl
theorem q293 : (Jvm.Cond.soleField "LockRail$Rail" "hasMark") ∈ lw_all := lw_g (lw_at lw_m1 154 rfl) rfl
theorem q294 : (Jvm.Cond.lays "LockRail$Rail" "LockRail$Rail" "hasWatch" "Z") ∈ lw_all := lw_g (lw_at lw_m1 155 rfl) rfl
theorem q295 : (Jvm.Cond.soleField "LockRail$Rail" "hasWatch") ∈ lw_all := lw_g (lw_at lw_m1 156 rfl) rfl
theorem q296 : (Jvm.Cond.lays "LockRail$Rail" "LockRail$Rail" "isWatched" "Z") ∈ lw_all := lw_g (lw_at lw_m1 157 rfl) rfl
theorem q297 : (Jvm.Cond.soleField "LockRail$Rail" "isWatched") ∈ lw_all := lw_g (lw_at lw_m1 158 rfl) rfl
theorem q298 : (Jvm.Cond.laysFinal "LockRail$Rail" "LockRail$Rail" "lamps" "Ljava/util/ArrayList;") ∈ lw_all := lw_g (lw_at lw_m1 159 rfl) rfl
theorem q299 : (Jvm.Cond.soleField "LockRail$Rail" "lamps") ∈ lw_all := lw_g (lw_at lw_m1 160 rfl) rfl
theorem q300 : (Jvm.Cond.laysFinal "LockRail$Rail" "LockRail$Rail" "locks" "Ljava/util/ArrayList;") ∈ lw_all := lw_g (lw_at lw_m1 161 rfl) rfl
theorem q301 : (Jvm.Cond.soleField "LockRail$Rail" "locks") ∈ lw_all := lw_g (lw_at lw_m1 162 rfl) rfl
theorem q302 : (Jvm.Cond.laysFinal "LockRail$Rail" "LockRail$Rail" "bikes" "Ljava/util/ArrayList;") ∈ lw_all := lw_g (lw_at lw_m1 163 rfl) rfl
theorem q303 : (Jvm.Cond.soleField "LockRail$Rail" "bikes") ∈ lw_all := lw_g (lw_at lw_m1 164 rfl) rfl
theorem q304 : (Jvm.Cond.laysFinal "LockRail$Rail" "LockRail$Rail" "thieves" "Ljava/util/ArrayList;") ∈ lw_all := lw_g (lw_at lw_m1 165 rfl) rfl
theorem q305 : (Jvm.Cond.soleField "LockRail$Rail" "thieves") ∈ lw_all := lw_g (lw_at lw_m1 166 rfl) rfl
theorem q306 : (Jvm.Cond.lays "LockRail$Rail" "LockRail$Rail" "bait" "LLockRail$Bike;") ∈ lw_all := lw_g (lw_at lw_m1 167 rfl) rfl
theorem q307 : (Jvm.Cond.soleField "LockRail$Rail" "bait") ∈ lw_all := lw_g (lw_at lw_m1 168 rfl) rfl
theorem q308 : (Jvm.Cond.lays "LockRail$Rail" "LockRail$Rail" "triedAt" "I") ∈ lw_all := lw_g (lw_at lw_m1 169 rfl) rfl
theorem q309 : (Jvm.Cond.soleField "LockRail$Rail" "triedAt") ∈ lw_all := lw_g (lw_at lw_m1 170 rfl) rfl
theorem q310 : (Jvm.Cond.lays "LockRail$Rail" "LockRail$Rail" "triedBright" "I") ∈ lw_all := lw_g (lw_at lw_m1 171 rfl) rfl
theorem q311 : (Jvm.Cond.soleField "LockRail$Rail" "triedBright") ∈ lw_all := lw_g (lw_at lw_m1 172 rfl) rfl
theorem q312 : (Jvm.Cond.superclass "LockRail$Rail" "java/lang/Object") ∈ lw_all := lw_g (lw_at lw_m1 173 rfl) rfl
theorem q777 : (Jvm.Cond.selects "LockRail$Rail" ({ cls := "java/lang/Object", name := "getClass", desc := "()Ljava/lang/Class;" } : Jvm.MethodName) ({ cls := "java/lang/Object", name := "getClass", desc := "()Ljava/lang/Class;" } : Jvm.MethodName)) ∈ lw_all := lw_g (lw_at lw_m3 158 rfl) rfl
theorem q813 : (Jvm.Cond.fieldLinkNest "LockRail$Rail" (153 : Nat) "LockRail$Lock" "price" "I" "LockRail") ∈ lw_tbl := lw_at lw_m3 194 rfl
theorem q815 : (Jvm.Cond.fieldLinkNest "LockRail$Rail" (121 : Nat) "LockRail$Lock" "cuts" "[I" "LockRail") ∈ lw_tbl := lw_at lw_m3 196 rfl
theorem q829 : (Jvm.Cond.instanceMethod ({ cls := "LockRail$Rail", name := "standsOn", desc := "(I)I" } : Jvm.MethodName)) ∈ lw_all := lw_g (lw_at lw_m3 210 rfl) rfl
theorem q830 : (Jvm.Cond.selects "LockRail$Rail" ({ cls := "LockRail$Rail", name := "standsOn", desc := "(I)I" } : Jvm.MethodName) ({ cls := "LockRail$Rail", name := "standsOn", desc := "(I)I" } : Jvm.MethodName)) ∈ lw_all := lw_g (lw_at lw_m3 211 rfl) rfl
theorem q831 : (Jvm.Cond.code ({ cls := "LockRail$Rail", name := "standsOn", desc := "(I)I" } : Jvm.MethodName) prog_13_method_10_code (3 : Nat) (Option.some Jvm.ClassFile.FieldType.int)) ∈ lw_all := lw_g (lw_at lw_m3 212 rfl) rfl
theorem q832 : (Jvm.Cond.methodLink "LockRail$Rail" (72 : Nat) ({ cls := "java/util/ArrayList", name := "size", desc := "()I" } : Jvm.MethodName)) ∈ lw_all := lw_g (lw_at lw_m3 213 rfl) rfl
theorem q833 : (Jvm.Cond.methodLink "LockRail$Rail" (76 : Nat) ({ cls := "java/util/ArrayList", name := "get", desc := "(I)Ljava/lang/Object;" } : Jvm.MethodName)) ∈ lw_all := lw_g (lw_at lw_m3 214 rfl) rfl
theorem q845 : (Jvm.Cond.classLink "LockRail$Rail" (80 : Nat) "LockRail$Bike") ∈ lw_all := lw_g (lw_at lw_m3 226 rfl) rfl
theorem q858 : (Jvm.Cond.fieldLinkNest "LockRail$Rail" (142 : Nat) "LockRail$Bike" "seems" "I" "LockRail") ∈ lw_tbl := lw_at lw_m3 239 rfl
theorem q861 : (Jvm.Cond.fieldLinkNest "LockRail$Rail" (133 : Nat) "LockRail$Bike" "place" "I" "LockRail") ∈ lw_tbl := lw_at lw_m4 2 rfl
theorem q864 : (Jvm.Cond.fieldLinkNest "LockRail$Rail" (116 : Nat) "LockRail$Bike" "lock" "I" "LockRail") ∈ lw_tbl := lw_at lw_m4 5 rfl
theorem q868 : (Jvm.Cond.fieldLinkNest "LockRail$Rail" (139 : Nat) "LockRail$Bike" "isMarked" "Z" "LockRail") ∈ lw_tbl := lw_at lw_m4 9 rfl
theorem q902 : (Jvm.Cond.fieldLink "LockRail$Rail" (125 : Nat) "LockRail$Thief" "tool" "I") ∈ lw_all := lw_g (lw_at lw_m4 43 rfl) rfl
theorem q908 : (Jvm.Cond.fieldLink "LockRail$Rail" (130 : Nat) "LockRail$Thief" "fears" "I") ∈ lw_all := lw_g (lw_at lw_m4 49 rfl) rfl
theorem q931 : (Jvm.Cond.instanceMethod ({ cls := "LockRail$Rail", name := "many", desc := "()I" } : Jvm.MethodName)) ∈ lw_all := lw_g (lw_at lw_m4 72 rfl) rfl
theorem q932 : (Jvm.Cond.selects "LockRail$Rail" ({ cls := "LockRail$Rail", name := "many", desc := "()I" } : Jvm.MethodName) ({ cls := "LockRail$Rail", name := "many", desc := "()I" } : Jvm.MethodName)) ∈ lw_all := lw_g (lw_at lw_m4 73 rfl) rfl
theorem q933 : (Jvm.Cond.code ({ cls := "LockRail$Rail", name := "many", desc := "()I" } : Jvm.MethodName) prog_13_method_3_code (1 : Nat) (Option.some Jvm.ClassFile.FieldType.int)) ∈ lw_all := lw_g (lw_at lw_m4 74 rfl) rfl
theorem q976 : (Jvm.Cond.instanceMethod ({ cls := "LockRail$Rail", name := "light", desc := "(I)I" } : Jvm.MethodName)) ∈ lw_all := lw_g (lw_at lw_m4 117 rfl) rfl
theorem q977 : (Jvm.Cond.selects "LockRail$Rail" ({ cls := "LockRail$Rail", name := "light", desc := "(I)I" } : Jvm.MethodName) ({ cls := "LockRail$Rail", name := "light", desc := "(I)I" } : Jvm.MethodName)) ∈ lw_all := lw_g (lw_at lw_m4 118 rfl) rfl
theorem q978 : (Jvm.Cond.code ({ cls := "LockRail$Rail", name := "light", desc := "(I)I" } : Jvm.MethodName) prog_13_method_6_code (4 : Nat) (Option.some Jvm.ClassFile.FieldType.int)) ∈ lw_all := lw_g (lw_at lw_m4 119 rfl) rfl
theorem q979 : (Jvm.Cond.classLink "LockRail$Rail" (94 : Nat) "LockRail$Lamp") ∈ lw_all := lw_g (lw_at lw_m4 120 rfl) rfl
theorem q980 : (Jvm.Cond.methodLink "LockRail$Rail" (96 : Nat) ({ cls := "LockRail$Lamp", name := "on", desc := "(I)I" } : Jvm.MethodName)) ∈ lw_all := lw_g (lw_at lw_m4 121 rfl) rfl
theorem q988 : (Jvm.Cond.methodLink "LockRail$Rail" (103 : Nat) ({ cls := "java/lang/Math", name := "abs", desc := "(I)I" } : Jvm.MethodName)) ∈ lw_all := lw_g (lw_at lw_m4 129 rfl) rfl
theorem q989 : (Jvm.Cond.methodLink "LockRail$Rail" (108 : Nat) ({ cls := "java/lang/Math", name := "max", desc := "(II)I" } : Jvm.MethodName)) ∈ lw_all := lw_g (lw_at lw_m4 130 rfl) rfl
theorem q1012 : (Jvm.Cond.instanceMethod ({ cls := "LockRail$Rail", name := "trouble", desc := "(LLockRail$Thief;I)I" } : Jvm.MethodName)) ∈ lw_all := lw_g (lw_at lw_m4 153 rfl) rfl
theorem q1013 : (Jvm.Cond.selects "LockRail$Rail" ({ cls := "LockRail$Rail", name := "trouble", desc := "(LLockRail$Thief;I)I" } : Jvm.MethodName) ({ cls := "LockRail$Rail", name := "trouble", desc := "(LLockRail$Thief;I)I" } : Jvm.MethodName)) ∈ lw_all := lw_g (lw_at lw_m4 154 rfl) rfl
theorem q1014 : (Jvm.Cond.code ({ cls := "LockRail$Rail", name := "trouble", desc := "(LLockRail$Thief;I)I" } : Jvm.MethodName) prog_13_method_7_code (4 : Nat) (Option.some Jvm.ClassFile.FieldType.int)) ∈ lw_all := lw_g (lw_at lw_m4 155 rfl) rfl
theorem q1015 : (Jvm.Cond.methodLink "LockRail$Rail" (112 : Nat) ({ cls := "LockRail$Rail", name := "bike", desc := "(I)LLockRail$Bike;" } : Jvm.MethodName)) ∈ lw_all := lw_g (lw_at lw_m4 156 rfl) rfl
theorem q1016 : (Jvm.Cond.instanceMethod ({ cls := "LockRail$Rail", name := "bike", desc := "(I)LLockRail$Bike;" } : Jvm.MethodName)) ∈ lw_all := lw_g (lw_at lw_m4 157 rfl) rfl
theorem q1017 : (Jvm.Cond.selects "LockRail$Rail" ({ cls := "LockRail$Rail", name := "bike", desc := "(I)LLockRail$Bike;" } : Jvm.MethodName) ({ cls := "LockRail$Rail", name := "bike", desc := "(I)LLockRail$Bike;" } : Jvm.MethodName)) ∈ lw_all := lw_g (lw_at lw_m4 158 rfl) rfl
theorem q1018 : (Jvm.Cond.code ({ cls := "LockRail$Rail", name := "bike", desc := "(I)LLockRail$Bike;" } : Jvm.MethodName) prog_13_method_5_code (2 : Nat) (Option.some (Jvm.ClassFile.FieldType.object "LockRail$Bike"))) ∈ lw_all := lw_g (lw_at lw_m4 159 rfl) rfl
theorem q1019 : (Jvm.Cond.classLink "LockRail$Rail" (119 : Nat) "LockRail$Lock") ∈ lw_all := lw_g (lw_at lw_m4 160 rfl) rfl
theorem q1020 : (Jvm.Cond.methodLink "LockRail$Rail" (136 : Nat) ({ cls := "LockRail$Rail", name := "light", desc := "(I)I" } : Jvm.MethodName)) ∈ lw_all := lw_g (lw_at lw_m4 161 rfl) rfl
theorem q1026 : (Jvm.Cond.instanceMethod ({ cls := "LockRail$Rail", name := "gain", desc := "(I)I" } : Jvm.MethodName)) ∈ lw_all := lw_g (lw_at lw_m4 167 rfl) rfl
theorem q1027 : (Jvm.Cond.selects "LockRail$Rail" ({ cls := "LockRail$Rail", name := "gain", desc := "(I)I" } : Jvm.MethodName) ({ cls := "LockRail$Rail", name := "gain", desc := "(I)I" } : Jvm.MethodName)) ∈ lw_all := lw_g (lw_at lw_m4 168 rfl) rfl
theorem q1028 : (Jvm.Cond.code ({ cls := "LockRail$Rail", name := "gain", desc := "(I)I" } : Jvm.MethodName) prog_13_method_9_code (3 : Nat) (Option.some Jvm.ClassFile.FieldType.int)) ∈ lw_all := lw_g (lw_at lw_m4 169 rfl) rfl
theorem q1029 : (Jvm.Cond.methodLink "LockRail$Rail" (145 : Nat) ({ cls := "LockRail$Rail", name := "many", desc := "()I" } : Jvm.MethodName)) ∈ lw_all := lw_g (lw_at lw_m4 170 rfl) rfl
theorem q1030 : (Jvm.Cond.methodLink "LockRail$Rail" (148 : Nat) ({ cls := "LockRail$Rail", name := "marked", desc := "()I" } : Jvm.MethodName)) ∈ lw_all := lw_g (lw_at lw_m4 171 rfl) rfl
theorem q1031 : (Jvm.Cond.instanceMethod ({ cls := "LockRail$Rail", name := "marked", desc := "()I" } : Jvm.MethodName)) ∈ lw_all := lw_g (lw_at lw_m4 172 rfl) rfl
theorem q1032 : (Jvm.Cond.selects "LockRail$Rail" ({ cls := "LockRail$Rail", name := "marked", desc := "()I" } : Jvm.MethodName) ({ cls := "LockRail$Rail", name := "marked", desc := "()I" } : Jvm.MethodName)) ∈ lw_all := lw_g (lw_at lw_m4 173 rfl) rfl
theorem q1033 : (Jvm.Cond.code ({ cls := "LockRail$Rail", name := "marked", desc := "()I" } : Jvm.MethodName) prog_13_method_8_code (3 : Nat) (Option.some Jvm.ClassFile.FieldType.int)) ∈ lw_all := lw_g (lw_at lw_m4 174 rfl) rfl
theorem q1050 : (Jvm.Cond.instanceMethod ({ cls := "LockRail$Rail", name := "standing", desc := "()I" } : Jvm.MethodName)) ∈ lw_all := lw_g (lw_at lw_m4 191 rfl) rfl
theorem q1051 : (Jvm.Cond.selects "LockRail$Rail" ({ cls := "LockRail$Rail", name := "standing", desc := "()I" } : Jvm.MethodName) ({ cls := "LockRail$Rail", name := "standing", desc := "()I" } : Jvm.MethodName)) ∈ lw_all := lw_g (lw_at lw_m4 192 rfl) rfl
theorem q1052 : (Jvm.Cond.code ({ cls := "LockRail$Rail", name := "standing", desc := "()I" } : Jvm.MethodName) prog_13_method_4_code (1 : Nat) (Option.some Jvm.ClassFile.FieldType.int)) ∈ lw_all := lw_g (lw_at lw_m4 193 rfl) rfl
theorem q1149 : (Jvm.Cond.instanceMethod ({ cls := "LockRail$Rail", name := "paid", desc := "(I)J" } : Jvm.MethodName)) ∈ lw_all := lw_g (lw_at lw_m5 50 rfl) rfl
theorem q1150 : (Jvm.Cond.selects "LockRail$Rail" ({ cls := "LockRail$Rail", name := "paid", desc := "(I)J" } : Jvm.MethodName) ({ cls := "LockRail$Rail", name := "paid", desc := "(I)J" } : Jvm.MethodName)) ∈ lw_all := lw_g (lw_at lw_m5 51 rfl) rfl
theorem q1151 : (Jvm.Cond.code ({ cls := "LockRail$Rail", name := "paid", desc := "(I)J" } : Jvm.MethodName) prog_13_method_12_code (3 : Nat) (Option.some Jvm.ClassFile.FieldType.long)) ∈ lw_all := lw_g (lw_at lw_m5 52 rfl) rfl
theorem q1152 : (Jvm.Cond.constantLong "LockRail$Rail" (151 : Nat) (1000 : Int64)) ∈ lw_all := lw_g (lw_at lw_m5 53 rfl) rfl
theorem q1169 : (Jvm.Cond.instanceMethod ({ cls := "LockRail$Rail", name := "wages", desc := "()J" } : Jvm.MethodName)) ∈ lw_all := lw_g (lw_at lw_m5 70 rfl) rfl
theorem q1170 : (Jvm.Cond.selects "LockRail$Rail" ({ cls := "LockRail$Rail", name := "wages", desc := "()J" } : Jvm.MethodName) ({ cls := "LockRail$Rail", name := "wages", desc := "()J" } : Jvm.MethodName)) ∈ lw_all := lw_g (lw_at lw_m5 71 rfl) rfl
theorem q1171 : (Jvm.Cond.code ({ cls := "LockRail$Rail", name := "wages", desc := "()J" } : Jvm.MethodName) prog_13_method_13_code (1 : Nat) (Option.some Jvm.ClassFile.FieldType.long)) ∈ lw_all := lw_g (lw_at lw_m5 72 rfl) rfl
theorem q1189 : (Jvm.Cond.instanceMethod ({ cls := "LockRail$Rail", name := "options", desc := "()I" } : Jvm.MethodName)) ∈ lw_all := lw_g (lw_at lw_m5 90 rfl) rfl
theorem q1190 : (Jvm.Cond.selects "LockRail$Rail" ({ cls := "LockRail$Rail", name := "options", desc := "()I" } : Jvm.MethodName) ({ cls := "LockRail$Rail", name := "options", desc := "()I" } : Jvm.MethodName)) ∈ lw_all := lw_g (lw_at lw_m5 91 rfl) rfl
theorem q1191 : (Jvm.Cond.code ({ cls := "LockRail$Rail", name := "options", desc := "()I" } : Jvm.MethodName) prog_13_method_11_code (1 : Nat) (Option.some Jvm.ClassFile.FieldType.int)) ∈ lw_all := lw_g (lw_at lw_m5 92 rfl) rfl
theorem q1623 : (Jvm.Cond.instanceMethod ({ cls := "LockRail$Rail", name := "copy", desc := "()LLockRail$Rail;" } : Jvm.MethodName)) ∈ lw_all := lw_g (lw_at lw_m7 44 rfl) rfl
theorem q1624 : (Jvm.Cond.selects "LockRail$Rail" ({ cls := "LockRail$Rail", name := "copy", desc := "()LLockRail$Rail;" } : Jvm.MethodName) ({ cls := "LockRail$Rail", name := "copy", desc := "()LLockRail$Rail;" } : Jvm.MethodName)) ∈ lw_all := lw_g (lw_at lw_m7 45 rfl) rfl
theorem q1625 : (Jvm.Cond.code ({ cls := "LockRail$Rail", name := "copy", desc := "()LLockRail$Rail;" } : Jvm.MethodName) prog_13_method_2_code (3 : Nat) (Option.some (Jvm.ClassFile.FieldType.object "LockRail$Rail"))) ∈ lw_all := lw_g (lw_at lw_m7 46 rfl) rfl
theorem q1626 : (Jvm.Cond.classLink "LockRail$Rail" (15 : Nat) "LockRail$Rail") ∈ lw_all := lw_g (lw_at lw_m7 47 rfl) rfl
theorem q1627 : (Jvm.Cond.methodLink "LockRail$Rail" (33 : Nat) ({ cls := "LockRail$Rail", name := "<init>", desc := "()V" } : Jvm.MethodName)) ∈ lw_all := lw_g (lw_at lw_m7 48 rfl) rfl
theorem q1628 : (Jvm.Cond.methodLink "LockRail$Rail" (68 : Nat) ({ cls := "java/util/ArrayList", name := "addAll", desc := "(Ljava/util/Collection;)Z" } : Jvm.MethodName)) ∈ lw_all := lw_g (lw_at lw_m7 49 rfl) rfl
theorem q1643 : (Jvm.Cond.methodLink "LockRail$Rail" (82 : Nat) ({ cls := "LockRail$Bike", name := "copy", desc := "()LLockRail$Bike;" } : Jvm.MethodName)) ∈ lw_all := lw_g (lw_at lw_m7 64 rfl) rfl
theorem q1649 : (Jvm.Cond.methodLink "LockRail$Rail" (86 : Nat) ({ cls := "java/util/ArrayList", name := "add", desc := "(Ljava/lang/Object;)Z" } : Jvm.MethodName)) ∈ lw_all := lw_g (lw_at lw_m7 70 rfl) rfl
theorem q2540 : (Jvm.Cond.castable "LockRail$Rail" "java/lang/Object") ∈ lw_tbl := lw_at lw_m11 1 rfl
theorem in_X1 : ∀ w ∈ wsX10, w ∈ lw_all := lw_in wsX10 [276, 278, 280, 282, 284, 286, 288, 290, 292, 294, 296, 298, 300, 302, 304, 306, 308, 310] (by decide +kernel) (by decide +kernel)

/-! LockRail$Lock -/
set_option maxRecDepth 100000
def RX10 : String := "LockRail$Lock"
def TX10 : u_T := fun k => match k with
  | 0 => ("LockRail$Lock", "price", "I", true)
  | _ => ("LockRail$Lock", "cuts", "[I", true)
def tyX10 : Nat → FieldType := fun k => match k with
  | 0 => .int
  | _ => .array .int
abbrev wsX100 : List Cond := u_ws RX10 TX10 2
theorem nmX10 : ∀ a, a < 2 → ∀ b, b < 2 → a ≠ b → (TX10 a).2.1 ≠ (TX10 b).2.1 := by decide +kernel
theorem tyX10_ok : ∀ k, k < 2 → parseFieldDescriptor (TX10 k).2.2.1 = some (tyX10 k) := by decide +kernel
abbrev cX10_init : ByteArray := prog_11_method_1_code
def yX10_init : MethodName := ⟨RX10, "<init>", "(I[I)V"⟩
def dkwX10_init_0 : List UInt8 := [42, 183, 0, 1, 42, 27, 181, 0, 7, 42, 44, 181, 0, 13, 177]
abbrev dktX10_init_0 : List UInt8 := dkwX10_init_0 ++ []
theorem dksX10_init_0 : cX10_init.data.toList.drop 0 = dktX10_init_0 := by decide +kernel
theorem dX10_init_0 : decode cX10_init 0 = .ok (.aload_n 0, 1) := dk_42 (dk_at dksX10_init_0 0 rfl rfl)
theorem dX10_init_1 : decode cX10_init 1 = .ok (.invokespecial 1, 3) := dk_183 0 1 (dk_at dksX10_init_0 1 rfl rfl)
theorem dX10_init_4 : decode cX10_init 4 = .ok (.aload_n 0, 1) := dk_42 (dk_at dksX10_init_0 4 rfl rfl)
theorem dX10_init_5 : decode cX10_init 5 = .ok (.iload_n 1, 1) := dk_27 (dk_at dksX10_init_0 5 rfl rfl)
theorem dX10_init_6 : decode cX10_init 6 = .ok (.putfield 7, 3) := dk_181 0 7 (dk_at dksX10_init_0 6 rfl rfl)
theorem dX10_init_9 : decode cX10_init 9 = .ok (.aload_n 0, 1) := dk_42 (dk_at dksX10_init_0 9 rfl rfl)
theorem dX10_init_10 : decode cX10_init 10 = .ok (.aload_n 2, 1) := dk_44 (dk_at dksX10_init_0 10 rfl rfl)
theorem dX10_init_11 : decode cX10_init 11 = .ok (.putfield 13, 3) := dk_181 0 13 (dk_at dksX10_init_0 11 rfl rfl)
theorem dX10_init_14 : decode cX10_init 14 = .ok (.return_, 1) := dk_177 (dk_at dksX10_init_0 14 rfl rfl)
theorem q165 : (Jvm.Cond.initialized "LockRail$Lock") ∈ lw_all := lw_g (lw_at lw_m1 26 rfl) rfl
theorem q775 : (Jvm.Cond.selects "LockRail$Lock" ({ cls := "java/lang/Object", name := "getClass", desc := "()Ljava/lang/Class;" } : Jvm.MethodName) ({ cls := "java/lang/Object", name := "getClass", desc := "()Ljava/lang/Class;" } : Jvm.MethodName)) ∈ lw_all := lw_g (lw_at lw_m3 156 rfl) rfl
theorem q807 : (Jvm.Cond.instantiable "LockRail$Lock" (2 : Nat)) ∈ lw_all := lw_g (lw_at lw_m3 188 rfl) rfl
theorem q809 : (Jvm.Cond.instanceMethod ({ cls := "LockRail$Lock", name := "<init>", desc := "(I[I)V" } : Jvm.MethodName)) ∈ lw_all := lw_g (lw_at lw_m3 190 rfl) rfl
theorem q810 : (Jvm.Cond.code ({ cls := "LockRail$Lock", name := "<init>", desc := "(I[I)V" } : Jvm.MethodName) prog_11_method_1_code (3 : Nat) (Option.none : Option Jvm.ClassFile.FieldType)) ∈ lw_all := lw_g (lw_at lw_m3 191 rfl) rfl
theorem q811 : (Jvm.Cond.methodLink "LockRail$Lock" (1 : Nat) ({ cls := "java/lang/Object", name := "<init>", desc := "()V" } : Jvm.MethodName)) ∈ lw_all := lw_g (lw_at lw_m3 192 rfl) rfl
theorem q812 : (Jvm.Cond.fieldLink "LockRail$Lock" (7 : Nat) "LockRail$Lock" "price" "I") ∈ lw_all := lw_g (lw_at lw_m3 193 rfl) rfl
theorem q814 : (Jvm.Cond.fieldLink "LockRail$Lock" (13 : Nat) "LockRail$Lock" "cuts" "[I") ∈ lw_all := lw_g (lw_at lw_m3 195 rfl) rfl
theorem q816 : (Jvm.Cond.laysFinal "LockRail$Lock" "LockRail$Lock" "price" "I") ∈ lw_all := lw_g (lw_at lw_m3 197 rfl) rfl
theorem q817 : (Jvm.Cond.soleField "LockRail$Lock" "price") ∈ lw_all := lw_g (lw_at lw_m3 198 rfl) rfl
theorem q818 : (Jvm.Cond.laysFinal "LockRail$Lock" "LockRail$Lock" "cuts" "[I") ∈ lw_all := lw_g (lw_at lw_m3 199 rfl) rfl
theorem q819 : (Jvm.Cond.soleField "LockRail$Lock" "cuts") ∈ lw_all := lw_g (lw_at lw_m3 200 rfl) rfl
theorem q820 : (Jvm.Cond.superclass "LockRail$Lock" "java/lang/Object") ∈ lw_all := lw_g (lw_at lw_m3 201 rfl) rfl
theorem q2549 : (Jvm.Cond.castable "LockRail$Lock" "java/lang/Object") ∈ lw_tbl := lw_at lw_m11 10 rfl
theorem in_X10 : ∀ w ∈ wsX100, w ∈ lw_all := lw_in wsX100 [816, 818] (by decide +kernel) (by decide +kernel)

/-! LockRail$Bike -/
set_option maxRecDepth 100000
def RX11 : String := "LockRail$Bike"
def TX11 : u_T := fun k => match k with
  | 0 => ("LockRail$Bike", "worth", "I", true)
  | 1 => ("LockRail$Bike", "seems", "I", true)
  | 2 => ("LockRail$Bike", "place", "I", false)
  | 3 => ("LockRail$Bike", "lock", "I", false)
  | _ => ("LockRail$Bike", "isMarked", "Z", false)
def tyX11 : Nat → FieldType := fun k => match k with
  | 0 => .int
  | 1 => .int
  | 2 => .int
  | 3 => .int
  | _ => .boolean
abbrev wsX110 : List Cond := u_ws RX11 TX11 5
theorem nmX11 : ∀ a, a < 5 → ∀ b, b < 5 → a ≠ b → (TX11 a).2.1 ≠ (TX11 b).2.1 := by decide +kernel
theorem tyX11_ok : ∀ k, k < 5 → parseFieldDescriptor (TX11 k).2.2.1 = some (tyX11 k) := by decide +kernel
abbrev cX11_init : ByteArray := prog_5_method_1_code
def yX11_init : MethodName := ⟨RX11, "<init>", "(III)V"⟩
def dkwX11_init_1 : List UInt8 := [177]
abbrev dktX11_init_1 : List UInt8 := dkwX11_init_1 ++ []
def dkwX11_init_0 : List UInt8 := [42, 183, 0, 3, 42, 2, 181, 0, 9, 42, 27, 181, 0, 15, 42, 28, 181, 0, 18, 42, 29, 181, 0, 21]
abbrev dktX11_init_0 : List UInt8 := dkwX11_init_0 ++ dktX11_init_1
theorem dksX11_init_0 : cX11_init.data.toList.drop 0 = dktX11_init_0 := by decide +kernel
theorem dksX11_init_1 : cX11_init.data.toList.drop 24 = dktX11_init_1 := dk_seg dksX11_init_0 24 rfl rfl
theorem dX11_init_0 : decode cX11_init 0 = .ok (.aload_n 0, 1) := dk_42 (dk_at dksX11_init_0 0 rfl rfl)
theorem dX11_init_1 : decode cX11_init 1 = .ok (.invokespecial 3, 3) := dk_183 0 3 (dk_at dksX11_init_0 1 rfl rfl)
theorem dX11_init_4 : decode cX11_init 4 = .ok (.aload_n 0, 1) := dk_42 (dk_at dksX11_init_0 4 rfl rfl)
theorem dX11_init_5 : decode cX11_init 5 = .ok (.iconst (-1), 1) := dk_2 (dk_at dksX11_init_0 5 rfl rfl)
theorem dX11_init_6 : decode cX11_init 6 = .ok (.putfield 9, 3) := dk_181 0 9 (dk_at dksX11_init_0 6 rfl rfl)
theorem dX11_init_9 : decode cX11_init 9 = .ok (.aload_n 0, 1) := dk_42 (dk_at dksX11_init_0 9 rfl rfl)
theorem dX11_init_10 : decode cX11_init 10 = .ok (.iload_n 1, 1) := dk_27 (dk_at dksX11_init_0 10 rfl rfl)
theorem dX11_init_11 : decode cX11_init 11 = .ok (.putfield 15, 3) := dk_181 0 15 (dk_at dksX11_init_0 11 rfl rfl)
theorem dX11_init_14 : decode cX11_init 14 = .ok (.aload_n 0, 1) := dk_42 (dk_at dksX11_init_0 14 rfl rfl)
theorem dX11_init_15 : decode cX11_init 15 = .ok (.iload_n 2, 1) := dk_28 (dk_at dksX11_init_0 15 rfl rfl)
theorem dX11_init_16 : decode cX11_init 16 = .ok (.putfield 18, 3) := dk_181 0 18 (dk_at dksX11_init_0 16 rfl rfl)
theorem dX11_init_19 : decode cX11_init 19 = .ok (.aload_n 0, 1) := dk_42 (dk_at dksX11_init_0 19 rfl rfl)
theorem dX11_init_20 : decode cX11_init 20 = .ok (.iload_n 3, 1) := dk_29 (dk_at dksX11_init_0 20 rfl rfl)
theorem dX11_init_21 : decode cX11_init 21 = .ok (.putfield 21, 3) := dk_181 0 21 (dk_at dksX11_init_0 21 rfl rfl)
theorem dX11_init_24 : decode cX11_init 24 = .ok (.return_, 1) := dk_177 (dk_at dksX11_init_1 0 rfl rfl)
abbrev cX11_option : ByteArray := prog_5_method_3_code
def yX11_option : MethodName := ⟨RX11, "option", "()I"⟩
def dkwX11_option_0 : List UInt8 := [5, 42, 180, 0, 9, 4, 96, 104, 42, 180, 0, 27, 153, 0, 7, 4, 167, 0, 4, 3, 96, 172]
abbrev dktX11_option_0 : List UInt8 := dkwX11_option_0 ++ []
theorem dksX11_option_0 : cX11_option.data.toList.drop 0 = dktX11_option_0 := by decide +kernel
theorem dX11_option_0 : decode cX11_option 0 = .ok (.iconst 2, 1) := dk_5 (dk_at dksX11_option_0 0 rfl rfl)
theorem dX11_option_1 : decode cX11_option 1 = .ok (.aload_n 0, 1) := dk_42 (dk_at dksX11_option_0 1 rfl rfl)
theorem dX11_option_2 : decode cX11_option 2 = .ok (.getfield 9, 3) := dk_180 0 9 (dk_at dksX11_option_0 2 rfl rfl)
theorem dX11_option_5 : decode cX11_option 5 = .ok (.iconst 1, 1) := dk_4 (dk_at dksX11_option_0 5 rfl rfl)
theorem dX11_option_6 : decode cX11_option 6 = .ok (.iadd, 1) := dk_96 (dk_at dksX11_option_0 6 rfl rfl)
theorem dX11_option_7 : decode cX11_option 7 = .ok (.imul, 1) := dk_104 (dk_at dksX11_option_0 7 rfl rfl)
theorem dX11_option_8 : decode cX11_option 8 = .ok (.aload_n 0, 1) := dk_42 (dk_at dksX11_option_0 8 rfl rfl)
theorem dX11_option_9 : decode cX11_option 9 = .ok (.getfield 27, 3) := dk_180 0 27 (dk_at dksX11_option_0 9 rfl rfl)
theorem dX11_option_12 : decode cX11_option 12 = .ok (.ifCond .eq 7, 3) := dk_153 0 7 (dk_at dksX11_option_0 12 rfl rfl)
theorem dX11_option_15 : decode cX11_option 15 = .ok (.iconst 1, 1) := dk_4 (dk_at dksX11_option_0 15 rfl rfl)
theorem dX11_option_16 : decode cX11_option 16 = .ok (.goto 4, 3) := dk_167 0 4 (dk_at dksX11_option_0 16 rfl rfl)
theorem dX11_option_19 : decode cX11_option 19 = .ok (.iconst 0, 1) := dk_3 (dk_at dksX11_option_0 19 rfl rfl)
theorem dX11_option_20 : decode cX11_option 20 = .ok (.iadd, 1) := dk_96 (dk_at dksX11_option_0 20 rfl rfl)
theorem dX11_option_21 : decode cX11_option 21 = .ok (.ireturn, 1) := dk_172 (dk_at dksX11_option_0 21 rfl rfl)
abbrev cX11_options : ByteArray := prog_5_method_4_code
def yX11_options : MethodName := ⟨RX11, "options", "(I)V"⟩
def dkwX11_options_1 : List UInt8 := [181, 0, 27, 177]
abbrev dktX11_options_1 : List UInt8 := dkwX11_options_1 ++ []
def dkwX11_options_0 : List UInt8 := [42, 27, 5, 108, 4, 100, 181, 0, 9, 42, 27, 5, 112, 4, 160, 0, 7, 4, 167, 0, 4, 3]
abbrev dktX11_options_0 : List UInt8 := dkwX11_options_0 ++ dktX11_options_1
theorem dksX11_options_0 : cX11_options.data.toList.drop 0 = dktX11_options_0 := by decide +kernel
theorem dksX11_options_1 : cX11_options.data.toList.drop 22 = dktX11_options_1 := dk_seg dksX11_options_0 22 rfl rfl
theorem dX11_options_0 : decode cX11_options 0 = .ok (.aload_n 0, 1) := dk_42 (dk_at dksX11_options_0 0 rfl rfl)
theorem dX11_options_1 : decode cX11_options 1 = .ok (.iload_n 1, 1) := dk_27 (dk_at dksX11_options_0 1 rfl rfl)
theorem dX11_options_2 : decode cX11_options 2 = .ok (.iconst 2, 1) := dk_5 (dk_at dksX11_options_0 2 rfl rfl)
theorem dX11_options_3 : decode cX11_options 3 = .ok (.idiv, 1) := dk_108 (dk_at dksX11_options_0 3 rfl rfl)
theorem dX11_options_4 : decode cX11_options 4 = .ok (.iconst 1, 1) := dk_4 (dk_at dksX11_options_0 4 rfl rfl)
theorem dX11_options_5 : decode cX11_options 5 = .ok (.isub, 1) := dk_100 (dk_at dksX11_options_0 5 rfl rfl)
theorem dX11_options_6 : decode cX11_options 6 = .ok (.putfield 9, 3) := dk_181 0 9 (dk_at dksX11_options_0 6 rfl rfl)
theorem dX11_options_9 : decode cX11_options 9 = .ok (.aload_n 0, 1) := dk_42 (dk_at dksX11_options_0 9 rfl rfl)
theorem dX11_options_10 : decode cX11_options 10 = .ok (.iload_n 1, 1) := dk_27 (dk_at dksX11_options_0 10 rfl rfl)
theorem dX11_options_11 : decode cX11_options 11 = .ok (.iconst 2, 1) := dk_5 (dk_at dksX11_options_0 11 rfl rfl)
theorem dX11_options_12 : decode cX11_options 12 = .ok (.irem, 1) := dk_112 (dk_at dksX11_options_0 12 rfl rfl)
theorem dX11_options_13 : decode cX11_options 13 = .ok (.iconst 1, 1) := dk_4 (dk_at dksX11_options_0 13 rfl rfl)
theorem dX11_options_14 : decode cX11_options 14 = .ok (.if_icmp .ne 7, 3) := dk_160 0 7 (dk_at dksX11_options_0 14 rfl rfl)
theorem dX11_options_17 : decode cX11_options 17 = .ok (.iconst 1, 1) := dk_4 (dk_at dksX11_options_0 17 rfl rfl)
theorem dX11_options_18 : decode cX11_options 18 = .ok (.goto 4, 3) := dk_167 0 4 (dk_at dksX11_options_0 18 rfl rfl)
theorem dX11_options_21 : decode cX11_options 21 = .ok (.iconst 0, 1) := dk_3 (dk_at dksX11_options_0 21 rfl rfl)
theorem dX11_options_22 : decode cX11_options 22 = .ok (.putfield 27, 3) := dk_181 0 27 (dk_at dksX11_options_1 0 rfl rfl)
theorem dX11_options_25 : decode cX11_options 25 = .ok (.return_, 1) := dk_177 (dk_at dksX11_options_1 3 rfl rfl)
abbrev cX11_copy : ByteArray := prog_5_method_2_code
def yX11_copy : MethodName := ⟨RX11, "copy", "()LLockRail$Bike;"⟩
def dkwX11_copy_1 : List UInt8 := [180, 0, 9, 181, 0, 9, 43, 42, 180, 0, 27, 181, 0, 27, 43, 176]
abbrev dktX11_copy_1 : List UInt8 := dkwX11_copy_1 ++ []
def dkwX11_copy_0 : List UInt8 := [187, 0, 10, 89, 42, 180, 0, 15, 42, 180, 0, 18, 42, 180, 0, 21, 183, 0, 24, 76, 43, 42]
abbrev dktX11_copy_0 : List UInt8 := dkwX11_copy_0 ++ dktX11_copy_1
theorem dksX11_copy_0 : cX11_copy.data.toList.drop 0 = dktX11_copy_0 := by decide +kernel
theorem dksX11_copy_1 : cX11_copy.data.toList.drop 22 = dktX11_copy_1 := dk_seg dksX11_copy_0 22 rfl rfl
theorem dX11_copy_0 : decode cX11_copy 0 = .ok (.new 10, 3) := dk_187 0 10 (dk_at dksX11_copy_0 0 rfl rfl)
theorem dX11_copy_3 : decode cX11_copy 3 = .ok (.dup, 1) := dk_89 (dk_at dksX11_copy_0 3 rfl rfl)
theorem dX11_copy_4 : decode cX11_copy 4 = .ok (.aload_n 0, 1) := dk_42 (dk_at dksX11_copy_0 4 rfl rfl)
theorem dX11_copy_5 : decode cX11_copy 5 = .ok (.getfield 15, 3) := dk_180 0 15 (dk_at dksX11_copy_0 5 rfl rfl)
theorem dX11_copy_8 : decode cX11_copy 8 = .ok (.aload_n 0, 1) := dk_42 (dk_at dksX11_copy_0 8 rfl rfl)
theorem dX11_copy_9 : decode cX11_copy 9 = .ok (.getfield 18, 3) := dk_180 0 18 (dk_at dksX11_copy_0 9 rfl rfl)
theorem dX11_copy_12 : decode cX11_copy 12 = .ok (.aload_n 0, 1) := dk_42 (dk_at dksX11_copy_0 12 rfl rfl)
theorem dX11_copy_13 : decode cX11_copy 13 = .ok (.getfield 21, 3) := dk_180 0 21 (dk_at dksX11_copy_0 13 rfl rfl)
theorem dX11_copy_16 : decode cX11_copy 16 = .ok (.invokespecial 24, 3) := dk_183 0 24 (dk_at dksX11_copy_0 16 rfl rfl)
theorem dX11_copy_19 : decode cX11_copy 19 = .ok (.astore_n 1, 1) := dk_76 (dk_at dksX11_copy_0 19 rfl rfl)
theorem dX11_copy_20 : decode cX11_copy 20 = .ok (.aload_n 1, 1) := dk_43 (dk_at dksX11_copy_0 20 rfl rfl)
theorem dX11_copy_21 : decode cX11_copy 21 = .ok (.aload_n 0, 1) := dk_42 (dk_at dksX11_copy_0 21 rfl rfl)
theorem dX11_copy_22 : decode cX11_copy 22 = .ok (.getfield 9, 3) := dk_180 0 9 (dk_at dksX11_copy_1 0 rfl rfl)
theorem dX11_copy_25 : decode cX11_copy 25 = .ok (.putfield 9, 3) := dk_181 0 9 (dk_at dksX11_copy_1 3 rfl rfl)
theorem dX11_copy_28 : decode cX11_copy 28 = .ok (.aload_n 1, 1) := dk_43 (dk_at dksX11_copy_1 6 rfl rfl)
theorem dX11_copy_29 : decode cX11_copy 29 = .ok (.aload_n 0, 1) := dk_42 (dk_at dksX11_copy_1 7 rfl rfl)
theorem dX11_copy_30 : decode cX11_copy 30 = .ok (.getfield 27, 3) := dk_180 0 27 (dk_at dksX11_copy_1 8 rfl rfl)
theorem dX11_copy_33 : decode cX11_copy 33 = .ok (.putfield 27, 3) := dk_181 0 27 (dk_at dksX11_copy_1 11 rfl rfl)
theorem dX11_copy_36 : decode cX11_copy 36 = .ok (.aload_n 1, 1) := dk_43 (dk_at dksX11_copy_1 14 rfl rfl)
theorem dX11_copy_37 : decode cX11_copy 37 = .ok (.areturn, 1) := dk_176 (dk_at dksX11_copy_1 15 rfl rfl)
theorem q167 : (Jvm.Cond.initialized "LockRail$Bike") ∈ lw_all := lw_g (lw_at lw_m1 28 rfl) rfl
theorem q769 : (Jvm.Cond.selects "LockRail$Bike" ({ cls := "java/lang/Object", name := "getClass", desc := "()Ljava/lang/Class;" } : Jvm.MethodName) ({ cls := "java/lang/Object", name := "getClass", desc := "()Ljava/lang/Class;" } : Jvm.MethodName)) ∈ lw_all := lw_g (lw_at lw_m3 150 rfl) rfl
theorem q847 : (Jvm.Cond.instantiable "LockRail$Bike" (5 : Nat)) ∈ lw_all := lw_g (lw_at lw_m3 228 rfl) rfl
theorem q849 : (Jvm.Cond.instanceMethod ({ cls := "LockRail$Bike", name := "<init>", desc := "(III)V" } : Jvm.MethodName)) ∈ lw_all := lw_g (lw_at lw_m3 230 rfl) rfl
theorem q850 : (Jvm.Cond.code ({ cls := "LockRail$Bike", name := "<init>", desc := "(III)V" } : Jvm.MethodName) prog_5_method_1_code (4 : Nat) (Option.none : Option Jvm.ClassFile.FieldType)) ∈ lw_all := lw_g (lw_at lw_m3 231 rfl) rfl
theorem q851 : (Jvm.Cond.methodLink "LockRail$Bike" (3 : Nat) ({ cls := "java/lang/Object", name := "<init>", desc := "()V" } : Jvm.MethodName)) ∈ lw_all := lw_g (lw_at lw_m3 232 rfl) rfl
theorem q852 : (Jvm.Cond.fieldLink "LockRail$Bike" (15 : Nat) "LockRail$Bike" "worth" "I") ∈ lw_all := lw_g (lw_at lw_m3 233 rfl) rfl
theorem q857 : (Jvm.Cond.fieldLink "LockRail$Bike" (18 : Nat) "LockRail$Bike" "seems" "I") ∈ lw_all := lw_g (lw_at lw_m3 238 rfl) rfl
theorem q860 : (Jvm.Cond.fieldLink "LockRail$Bike" (21 : Nat) "LockRail$Bike" "place" "I") ∈ lw_all := lw_g (lw_at lw_m4 1 rfl) rfl
theorem q863 : (Jvm.Cond.fieldLink "LockRail$Bike" (9 : Nat) "LockRail$Bike" "lock" "I") ∈ lw_all := lw_g (lw_at lw_m4 4 rfl) rfl
theorem q867 : (Jvm.Cond.fieldLink "LockRail$Bike" (27 : Nat) "LockRail$Bike" "isMarked" "Z") ∈ lw_all := lw_g (lw_at lw_m4 8 rfl) rfl
theorem q871 : (Jvm.Cond.laysFinal "LockRail$Bike" "LockRail$Bike" "worth" "I") ∈ lw_all := lw_g (lw_at lw_m4 12 rfl) rfl
theorem q872 : (Jvm.Cond.soleField "LockRail$Bike" "worth") ∈ lw_all := lw_g (lw_at lw_m4 13 rfl) rfl
theorem q873 : (Jvm.Cond.laysFinal "LockRail$Bike" "LockRail$Bike" "seems" "I") ∈ lw_all := lw_g (lw_at lw_m4 14 rfl) rfl
theorem q874 : (Jvm.Cond.soleField "LockRail$Bike" "seems") ∈ lw_all := lw_g (lw_at lw_m4 15 rfl) rfl
theorem q875 : (Jvm.Cond.lays "LockRail$Bike" "LockRail$Bike" "place" "I") ∈ lw_all := lw_g (lw_at lw_m4 16 rfl) rfl
theorem q876 : (Jvm.Cond.soleField "LockRail$Bike" "place") ∈ lw_all := lw_g (lw_at lw_m4 17 rfl) rfl
theorem q877 : (Jvm.Cond.lays "LockRail$Bike" "LockRail$Bike" "lock" "I") ∈ lw_all := lw_g (lw_at lw_m4 18 rfl) rfl
theorem q878 : (Jvm.Cond.soleField "LockRail$Bike" "lock") ∈ lw_all := lw_g (lw_at lw_m4 19 rfl) rfl
theorem q879 : (Jvm.Cond.lays "LockRail$Bike" "LockRail$Bike" "isMarked" "Z") ∈ lw_all := lw_g (lw_at lw_m4 20 rfl) rfl
theorem q880 : (Jvm.Cond.soleField "LockRail$Bike" "isMarked") ∈ lw_all := lw_g (lw_at lw_m4 21 rfl) rfl
theorem q881 : (Jvm.Cond.superclass "LockRail$Bike" "java/lang/Object") ∈ lw_all := lw_g (lw_at lw_m4 22 rfl) rfl
theorem q1193 : (Jvm.Cond.instanceMethod ({ cls := "LockRail$Bike", name := "option", desc := "()I" } : Jvm.MethodName)) ∈ lw_all := lw_g (lw_at lw_m5 94 rfl) rfl
theorem q1194 : (Jvm.Cond.selects "LockRail$Bike" ({ cls := "LockRail$Bike", name := "option", desc := "()I" } : Jvm.MethodName) ({ cls := "LockRail$Bike", name := "option", desc := "()I" } : Jvm.MethodName)) ∈ lw_all := lw_g (lw_at lw_m5 95 rfl) rfl
theorem q1195 : (Jvm.Cond.code ({ cls := "LockRail$Bike", name := "option", desc := "()I" } : Jvm.MethodName) prog_5_method_3_code (1 : Nat) (Option.some Jvm.ClassFile.FieldType.int)) ∈ lw_all := lw_g (lw_at lw_m5 96 rfl) rfl
theorem q1197 : (Jvm.Cond.instanceMethod ({ cls := "LockRail$Bike", name := "options", desc := "(I)V" } : Jvm.MethodName)) ∈ lw_all := lw_g (lw_at lw_m5 98 rfl) rfl
theorem q1198 : (Jvm.Cond.selects "LockRail$Bike" ({ cls := "LockRail$Bike", name := "options", desc := "(I)V" } : Jvm.MethodName) ({ cls := "LockRail$Bike", name := "options", desc := "(I)V" } : Jvm.MethodName)) ∈ lw_all := lw_g (lw_at lw_m5 99 rfl) rfl
theorem q1199 : (Jvm.Cond.code ({ cls := "LockRail$Bike", name := "options", desc := "(I)V" } : Jvm.MethodName) prog_5_method_4_code (2 : Nat) (Option.none : Option Jvm.ClassFile.FieldType)) ∈ lw_all := lw_g (lw_at lw_m5 100 rfl) rfl
theorem q1644 : (Jvm.Cond.instanceMethod ({ cls := "LockRail$Bike", name := "copy", desc := "()LLockRail$Bike;" } : Jvm.MethodName)) ∈ lw_all := lw_g (lw_at lw_m7 65 rfl) rfl
theorem q1645 : (Jvm.Cond.selects "LockRail$Bike" ({ cls := "LockRail$Bike", name := "copy", desc := "()LLockRail$Bike;" } : Jvm.MethodName) ({ cls := "LockRail$Bike", name := "copy", desc := "()LLockRail$Bike;" } : Jvm.MethodName)) ∈ lw_all := lw_g (lw_at lw_m7 66 rfl) rfl
theorem q1646 : (Jvm.Cond.code ({ cls := "LockRail$Bike", name := "copy", desc := "()LLockRail$Bike;" } : Jvm.MethodName) prog_5_method_2_code (2 : Nat) (Option.some (Jvm.ClassFile.FieldType.object "LockRail$Bike"))) ∈ lw_all := lw_g (lw_at lw_m7 67 rfl) rfl
theorem q1647 : (Jvm.Cond.classLink "LockRail$Bike" (10 : Nat) "LockRail$Bike") ∈ lw_all := lw_g (lw_at lw_m7 68 rfl) rfl
theorem q1648 : (Jvm.Cond.methodLink "LockRail$Bike" (24 : Nat) ({ cls := "LockRail$Bike", name := "<init>", desc := "(III)V" } : Jvm.MethodName)) ∈ lw_all := lw_g (lw_at lw_m7 69 rfl) rfl
theorem q2550 : (Jvm.Cond.castable "LockRail$Bike" "java/lang/Object") ∈ lw_tbl := lw_at lw_m11 11 rfl
theorem in_X11 : ∀ w ∈ wsX110, w ∈ lw_all := lw_in wsX110 [871, 873, 875, 877, 879] (by decide +kernel) (by decide +kernel)

/-! LockRail$Thief -/
set_option maxRecDepth 100000
def RX12 : String := "LockRail$Thief"
abbrev cX12_init : ByteArray := prog_16_method_1_code
def yX12_init : MethodName := ⟨RX12, "<init>", "(III)V"⟩
def dkwX12_init_0 : List UInt8 := [42, 183, 0, 3, 42, 27, 181, 0, 9, 42, 28, 181, 0, 15, 42, 29, 181, 0, 18, 177]
abbrev dktX12_init_0 : List UInt8 := dkwX12_init_0 ++ []
theorem dksX12_init_0 : cX12_init.data.toList.drop 0 = dktX12_init_0 := by decide +kernel
theorem dX12_init_0 : decode cX12_init 0 = .ok (.aload_n 0, 1) := dk_42 (dk_at dksX12_init_0 0 rfl rfl)
theorem dX12_init_1 : decode cX12_init 1 = .ok (.invokespecial 3, 3) := dk_183 0 3 (dk_at dksX12_init_0 1 rfl rfl)
theorem dX12_init_4 : decode cX12_init 4 = .ok (.aload_n 0, 1) := dk_42 (dk_at dksX12_init_0 4 rfl rfl)
theorem dX12_init_5 : decode cX12_init 5 = .ok (.iload_n 1, 1) := dk_27 (dk_at dksX12_init_0 5 rfl rfl)
theorem dX12_init_6 : decode cX12_init 6 = .ok (.putfield 9, 3) := dk_181 0 9 (dk_at dksX12_init_0 6 rfl rfl)
theorem dX12_init_9 : decode cX12_init 9 = .ok (.aload_n 0, 1) := dk_42 (dk_at dksX12_init_0 9 rfl rfl)
theorem dX12_init_10 : decode cX12_init 10 = .ok (.iload_n 2, 1) := dk_28 (dk_at dksX12_init_0 10 rfl rfl)
theorem dX12_init_11 : decode cX12_init 11 = .ok (.putfield 15, 3) := dk_181 0 15 (dk_at dksX12_init_0 11 rfl rfl)
theorem dX12_init_14 : decode cX12_init 14 = .ok (.aload_n 0, 1) := dk_42 (dk_at dksX12_init_0 14 rfl rfl)
theorem dX12_init_15 : decode cX12_init 15 = .ok (.iload_n 3, 1) := dk_29 (dk_at dksX12_init_0 15 rfl rfl)
theorem dX12_init_16 : decode cX12_init 16 = .ok (.putfield 18, 3) := dk_181 0 18 (dk_at dksX12_init_0 16 rfl rfl)
theorem dX12_init_19 : decode cX12_init 19 = .ok (.return_, 1) := dk_177 (dk_at dksX12_init_0 19 rfl rfl)
abbrev cX12_takes : ByteArray := prog_16_method_4_code
def yX12_takes : MethodName := ⟨RX12, "takes", "(LLockRail$Rail;I)I"⟩
def dkwX12_takes_4 : List UInt8 := [21, 8, 54, 4, 21, 7, 54, 5, 132, 6, 1, 167, 255, 164, 29, 172]
abbrev dktX12_takes_4 : List UInt8 := dkwX12_takes_4 ++ []
def dkwX12_takes_3 : List UInt8 := [159, 0, 21, 42, 21, 8, 21, 7, 21, 4, 21, 5, 182, 0, 43, 154, 0, 6, 167, 0, 14, 21, 6, 62]
abbrev dktX12_takes_3 : List UInt8 := dkwX12_takes_3 ++ dktX12_takes_4
def dkwX12_takes_2 : List UInt8 := [182, 0, 35, 54, 7, 43, 21, 6, 182, 0, 39, 21, 7, 100, 54, 8, 21, 8, 158, 0, 37, 29, 2]
abbrev dktX12_takes_2 : List UInt8 := dkwX12_takes_2 ++ dktX12_takes_3
def dkwX12_takes_1 : List UInt8 := [184, 0, 27, 154, 0, 74, 42, 21, 6, 182, 0, 31, 154, 0, 6, 167, 0, 62, 43, 42, 21, 6]
abbrev dktX12_takes_1 : List UInt8 := dkwX12_takes_1 ++ dktX12_takes_2
def dkwX12_takes_0 : List UInt8 := [2, 62, 3, 54, 4, 3, 54, 5, 3, 54, 6, 21, 6, 43, 182, 0, 21, 162, 0, 89, 28, 21, 6]
abbrev dktX12_takes_0 : List UInt8 := dkwX12_takes_0 ++ dktX12_takes_1
theorem dksX12_takes_0 : cX12_takes.data.toList.drop 0 = dktX12_takes_0 := by decide +kernel
theorem dksX12_takes_1 : cX12_takes.data.toList.drop 23 = dktX12_takes_1 := dk_seg dksX12_takes_0 23 rfl rfl
theorem dksX12_takes_2 : cX12_takes.data.toList.drop 45 = dktX12_takes_2 := dk_seg dksX12_takes_1 22 rfl rfl
theorem dksX12_takes_3 : cX12_takes.data.toList.drop 68 = dktX12_takes_3 := dk_seg dksX12_takes_2 23 rfl rfl
theorem dksX12_takes_4 : cX12_takes.data.toList.drop 92 = dktX12_takes_4 := dk_seg dksX12_takes_3 24 rfl rfl
theorem dX12_takes_0 : decode cX12_takes 0 = .ok (.iconst (-1), 1) := dk_2 (dk_at dksX12_takes_0 0 rfl rfl)
theorem dX12_takes_1 : decode cX12_takes 1 = .ok (.istore_n 3, 1) := dk_62 (dk_at dksX12_takes_0 1 rfl rfl)
theorem dX12_takes_2 : decode cX12_takes 2 = .ok (.iconst 0, 1) := dk_3 (dk_at dksX12_takes_0 2 rfl rfl)
theorem dX12_takes_3 : decode cX12_takes 3 = .ok (.istore 4, 2) := dk_54 4 (dk_at dksX12_takes_0 3 rfl rfl)
theorem dX12_takes_5 : decode cX12_takes 5 = .ok (.iconst 0, 1) := dk_3 (dk_at dksX12_takes_0 5 rfl rfl)
theorem dX12_takes_6 : decode cX12_takes 6 = .ok (.istore 5, 2) := dk_54 5 (dk_at dksX12_takes_0 6 rfl rfl)
theorem dX12_takes_8 : decode cX12_takes 8 = .ok (.iconst 0, 1) := dk_3 (dk_at dksX12_takes_0 8 rfl rfl)
theorem dX12_takes_9 : decode cX12_takes 9 = .ok (.istore 6, 2) := dk_54 6 (dk_at dksX12_takes_0 9 rfl rfl)
theorem dX12_takes_11 : decode cX12_takes 11 = .ok (.iload 6, 2) := dk_21 6 (dk_at dksX12_takes_0 11 rfl rfl)
theorem dX12_takes_13 : decode cX12_takes 13 = .ok (.aload_n 1, 1) := dk_43 (dk_at dksX12_takes_0 13 rfl rfl)
theorem dX12_takes_14 : decode cX12_takes 14 = .ok (.invokevirtual 21, 3) := dk_182 0 21 (dk_at dksX12_takes_0 14 rfl rfl)
theorem dX12_takes_17 : decode cX12_takes 17 = .ok (.if_icmp .ge 89, 3) := dk_162 0 89 (dk_at dksX12_takes_0 17 rfl rfl)
theorem dX12_takes_20 : decode cX12_takes 20 = .ok (.iload_n 2, 1) := dk_28 (dk_at dksX12_takes_0 20 rfl rfl)
theorem dX12_takes_21 : decode cX12_takes 21 = .ok (.iload 6, 2) := dk_21 6 (dk_at dksX12_takes_0 21 rfl rfl)
theorem dX12_takes_23 : decode cX12_takes 23 = .ok (.invokestatic 27, 3) := dk_184 0 27 (dk_at dksX12_takes_1 0 rfl rfl)
theorem dX12_takes_26 : decode cX12_takes 26 = .ok (.ifCond .ne 74, 3) := dk_154 0 74 (dk_at dksX12_takes_1 3 rfl rfl)
theorem dX12_takes_29 : decode cX12_takes 29 = .ok (.aload_n 0, 1) := dk_42 (dk_at dksX12_takes_1 6 rfl rfl)
theorem dX12_takes_30 : decode cX12_takes 30 = .ok (.iload 6, 2) := dk_21 6 (dk_at dksX12_takes_1 7 rfl rfl)
theorem dX12_takes_32 : decode cX12_takes 32 = .ok (.invokevirtual 31, 3) := dk_182 0 31 (dk_at dksX12_takes_1 9 rfl rfl)
theorem dX12_takes_35 : decode cX12_takes 35 = .ok (.ifCond .ne 6, 3) := dk_154 0 6 (dk_at dksX12_takes_1 12 rfl rfl)
theorem dX12_takes_38 : decode cX12_takes 38 = .ok (.goto 62, 3) := dk_167 0 62 (dk_at dksX12_takes_1 15 rfl rfl)
theorem dX12_takes_41 : decode cX12_takes 41 = .ok (.aload_n 1, 1) := dk_43 (dk_at dksX12_takes_1 18 rfl rfl)
theorem dX12_takes_42 : decode cX12_takes 42 = .ok (.aload_n 0, 1) := dk_42 (dk_at dksX12_takes_1 19 rfl rfl)
theorem dX12_takes_43 : decode cX12_takes 43 = .ok (.iload 6, 2) := dk_21 6 (dk_at dksX12_takes_1 20 rfl rfl)
theorem dX12_takes_45 : decode cX12_takes 45 = .ok (.invokevirtual 35, 3) := dk_182 0 35 (dk_at dksX12_takes_2 0 rfl rfl)
theorem dX12_takes_48 : decode cX12_takes 48 = .ok (.istore 7, 2) := dk_54 7 (dk_at dksX12_takes_2 3 rfl rfl)
theorem dX12_takes_50 : decode cX12_takes 50 = .ok (.aload_n 1, 1) := dk_43 (dk_at dksX12_takes_2 5 rfl rfl)
theorem dX12_takes_51 : decode cX12_takes 51 = .ok (.iload 6, 2) := dk_21 6 (dk_at dksX12_takes_2 6 rfl rfl)
theorem dX12_takes_53 : decode cX12_takes 53 = .ok (.invokevirtual 39, 3) := dk_182 0 39 (dk_at dksX12_takes_2 8 rfl rfl)
theorem dX12_takes_56 : decode cX12_takes 56 = .ok (.iload 7, 2) := dk_21 7 (dk_at dksX12_takes_2 11 rfl rfl)
theorem dX12_takes_58 : decode cX12_takes 58 = .ok (.isub, 1) := dk_100 (dk_at dksX12_takes_2 13 rfl rfl)
theorem dX12_takes_59 : decode cX12_takes 59 = .ok (.istore 8, 2) := dk_54 8 (dk_at dksX12_takes_2 14 rfl rfl)
theorem dX12_takes_61 : decode cX12_takes 61 = .ok (.iload 8, 2) := dk_21 8 (dk_at dksX12_takes_2 16 rfl rfl)
theorem dX12_takes_63 : decode cX12_takes 63 = .ok (.ifCond .le 37, 3) := dk_158 0 37 (dk_at dksX12_takes_2 18 rfl rfl)
theorem dX12_takes_66 : decode cX12_takes 66 = .ok (.iload_n 3, 1) := dk_29 (dk_at dksX12_takes_2 21 rfl rfl)
theorem dX12_takes_67 : decode cX12_takes 67 = .ok (.iconst (-1), 1) := dk_2 (dk_at dksX12_takes_2 22 rfl rfl)
theorem dX12_takes_68 : decode cX12_takes 68 = .ok (.if_icmp .eq 21, 3) := dk_159 0 21 (dk_at dksX12_takes_3 0 rfl rfl)
theorem dX12_takes_71 : decode cX12_takes 71 = .ok (.aload_n 0, 1) := dk_42 (dk_at dksX12_takes_3 3 rfl rfl)
theorem dX12_takes_72 : decode cX12_takes 72 = .ok (.iload 8, 2) := dk_21 8 (dk_at dksX12_takes_3 4 rfl rfl)
theorem dX12_takes_74 : decode cX12_takes 74 = .ok (.iload 7, 2) := dk_21 7 (dk_at dksX12_takes_3 6 rfl rfl)
theorem dX12_takes_76 : decode cX12_takes 76 = .ok (.iload 4, 2) := dk_21 4 (dk_at dksX12_takes_3 8 rfl rfl)
theorem dX12_takes_78 : decode cX12_takes 78 = .ok (.iload 5, 2) := dk_21 5 (dk_at dksX12_takes_3 10 rfl rfl)
theorem dX12_takes_80 : decode cX12_takes 80 = .ok (.invokevirtual 43, 3) := dk_182 0 43 (dk_at dksX12_takes_3 12 rfl rfl)
theorem dX12_takes_83 : decode cX12_takes 83 = .ok (.ifCond .ne 6, 3) := dk_154 0 6 (dk_at dksX12_takes_3 15 rfl rfl)
theorem dX12_takes_86 : decode cX12_takes 86 = .ok (.goto 14, 3) := dk_167 0 14 (dk_at dksX12_takes_3 18 rfl rfl)
theorem dX12_takes_89 : decode cX12_takes 89 = .ok (.iload 6, 2) := dk_21 6 (dk_at dksX12_takes_3 21 rfl rfl)
theorem dX12_takes_91 : decode cX12_takes 91 = .ok (.istore_n 3, 1) := dk_62 (dk_at dksX12_takes_3 23 rfl rfl)
theorem dX12_takes_92 : decode cX12_takes 92 = .ok (.iload 8, 2) := dk_21 8 (dk_at dksX12_takes_4 0 rfl rfl)
theorem dX12_takes_94 : decode cX12_takes 94 = .ok (.istore 4, 2) := dk_54 4 (dk_at dksX12_takes_4 2 rfl rfl)
theorem dX12_takes_96 : decode cX12_takes 96 = .ok (.iload 7, 2) := dk_21 7 (dk_at dksX12_takes_4 4 rfl rfl)
theorem dX12_takes_98 : decode cX12_takes 98 = .ok (.istore 5, 2) := dk_54 5 (dk_at dksX12_takes_4 6 rfl rfl)
theorem dX12_takes_100 : decode cX12_takes 100 = .ok (.iinc 6 1, 3) := dk_132 6 1 (dk_at dksX12_takes_4 8 rfl rfl)
theorem dX12_takes_103 : decode cX12_takes 103 = .ok (.goto (-92), 3) := dk_167 255 164 (dk_at dksX12_takes_4 11 rfl rfl)
theorem dX12_takes_106 : decode cX12_takes 106 = .ok (.iload_n 3, 1) := dk_29 (dk_at dksX12_takes_4 14 rfl rfl)
theorem dX12_takes_107 : decode cX12_takes 107 = .ok (.ireturn, 1) := dk_172 (dk_at dksX12_takes_4 15 rfl rfl)
abbrev cX12_looksAt : ByteArray := prog_16_method_3_code
def yX12_looksAt : MethodName := ⟨RX12, "looksAt", "(I)Z"⟩
theorem dX12_looksAt_0 : decode cX12_looksAt 0 = .ok (.iconst 1, 1) := by decide +kernel
theorem dX12_looksAt_1 : decode cX12_looksAt 1 = .ok (.ireturn, 1) := by decide +kernel
theorem q168 : (Jvm.Cond.initialized "LockRail$Thief") ∈ lw_all := lw_g (lw_at lw_m1 29 rfl) rfl
theorem q898 : (Jvm.Cond.instanceMethod ({ cls := "LockRail$Thief", name := "<init>", desc := "(III)V" } : Jvm.MethodName)) ∈ lw_all := lw_g (lw_at lw_m4 39 rfl) rfl
theorem q899 : (Jvm.Cond.code ({ cls := "LockRail$Thief", name := "<init>", desc := "(III)V" } : Jvm.MethodName) prog_16_method_1_code (4 : Nat) (Option.none : Option Jvm.ClassFile.FieldType)) ∈ lw_all := lw_g (lw_at lw_m4 40 rfl) rfl
theorem q900 : (Jvm.Cond.methodLink "LockRail$Thief" (3 : Nat) ({ cls := "java/lang/Object", name := "<init>", desc := "()V" } : Jvm.MethodName)) ∈ lw_all := lw_g (lw_at lw_m4 41 rfl) rfl
theorem q901 : (Jvm.Cond.fieldLink "LockRail$Thief" (9 : Nat) "LockRail$Thief" "tool" "I") ∈ lw_all := lw_g (lw_at lw_m4 42 rfl) rfl
theorem q903 : (Jvm.Cond.fieldLink "LockRail$Thief" (15 : Nat) "LockRail$Thief" "comes" "I") ∈ lw_all := lw_g (lw_at lw_m4 44 rfl) rfl
theorem q907 : (Jvm.Cond.fieldLink "LockRail$Thief" (18 : Nat) "LockRail$Thief" "fears" "I") ∈ lw_all := lw_g (lw_at lw_m4 48 rfl) rfl
theorem q910 : (Jvm.Cond.soleField "LockRail$Thief" "tool") ∈ lw_all := lw_g (lw_at lw_m4 51 rfl) rfl
theorem q912 : (Jvm.Cond.soleField "LockRail$Thief" "comes") ∈ lw_all := lw_g (lw_at lw_m4 53 rfl) rfl
theorem q914 : (Jvm.Cond.soleField "LockRail$Thief" "fears") ∈ lw_all := lw_g (lw_at lw_m4 55 rfl) rfl
theorem q1043 : (Jvm.Cond.instanceMethod ({ cls := "LockRail$Thief", name := "takes", desc := "(LLockRail$Rail;I)I" } : Jvm.MethodName)) ∈ lw_all := lw_g (lw_at lw_m4 184 rfl) rfl
theorem q1044 : (Jvm.Cond.sameMethod "LockRail$Thief" "LockRail$Thief" "takes" "(LLockRail$Rail;I)I") ∈ lw_all := lw_g (lw_at lw_m4 185 rfl) rfl
theorem q1048 : (Jvm.Cond.code ({ cls := "LockRail$Thief", name := "takes", desc := "(LLockRail$Rail;I)I" } : Jvm.MethodName) prog_16_method_4_code (9 : Nat) (Option.some Jvm.ClassFile.FieldType.int)) ∈ lw_all := lw_g (lw_at lw_m4 189 rfl) rfl
theorem q1049 : (Jvm.Cond.methodLink "LockRail$Thief" (21 : Nat) ({ cls := "LockRail$Rail", name := "standing", desc := "()I" } : Jvm.MethodName)) ∈ lw_all := lw_g (lw_at lw_m4 190 rfl) rfl
theorem q1053 : (Jvm.Cond.methodLinkNest "LockRail$Thief" (27 : Nat) ({ cls := "LockRail", name := "holds", desc := "(II)Z" } : Jvm.MethodName) "LockRail") ∈ lw_tbl := lw_at lw_m4 194 rfl
theorem q1056 : (Jvm.Cond.methodLink "LockRail$Thief" (31 : Nat) ({ cls := "LockRail$Thief", name := "looksAt", desc := "(I)Z" } : Jvm.MethodName)) ∈ lw_all := lw_g (lw_at lw_m4 197 rfl) rfl
theorem q1057 : (Jvm.Cond.instanceMethod ({ cls := "LockRail$Thief", name := "looksAt", desc := "(I)Z" } : Jvm.MethodName)) ∈ lw_all := lw_g (lw_at lw_m4 198 rfl) rfl
theorem q1058 : (Jvm.Cond.sameMethod "LockRail$Thief" "LockRail$Thief" "looksAt" "(I)Z") ∈ lw_all := lw_g (lw_at lw_m4 199 rfl) rfl
theorem q1064 : (Jvm.Cond.code ({ cls := "LockRail$Thief", name := "looksAt", desc := "(I)Z" } : Jvm.MethodName) prog_16_method_3_code (2 : Nat) (Option.some Jvm.ClassFile.FieldType.boolean)) ∈ lw_all := lw_g (lw_at lw_m4 205 rfl) rfl
theorem q1065 : (Jvm.Cond.methodLink "LockRail$Thief" (35 : Nat) ({ cls := "LockRail$Rail", name := "trouble", desc := "(LLockRail$Thief;I)I" } : Jvm.MethodName)) ∈ lw_all := lw_g (lw_at lw_m4 206 rfl) rfl
theorem q1066 : (Jvm.Cond.methodLink "LockRail$Thief" (39 : Nat) ({ cls := "LockRail$Rail", name := "gain", desc := "(I)I" } : Jvm.MethodName)) ∈ lw_all := lw_g (lw_at lw_m4 207 rfl) rfl
theorem q1067 : (Jvm.Cond.methodLink "LockRail$Thief" (43 : Nat) ({ cls := "LockRail$Thief", name := "likes", desc := "(IIII)Z" } : Jvm.MethodName)) ∈ lw_all := lw_g (lw_at lw_m4 208 rfl) rfl
theorem q1068 : (Jvm.Cond.declares ({ cls := "LockRail$Thief", name := "likes", desc := "(IIII)Z" } : Jvm.MethodName)) ∈ lw_tbl := lw_at lw_m4 209 rfl
theorem q1069 : (Jvm.Cond.sameMethod "LockRail$Thief" "LockRail$Thief" "likes" "(IIII)Z") ∈ lw_all := lw_g (lw_at lw_m4 210 rfl) rfl

/-! LockRail$Best -/
set_option maxRecDepth 100000
def RX13 : String := "LockRail$Best"
def TX13 : u_T := fun k => match k with
  | 0 => ("LockRail$Thief", "tool", "I", true)
  | 1 => ("LockRail$Thief", "comes", "I", true)
  | _ => ("LockRail$Thief", "fears", "I", true)
def tyX13 : Nat → FieldType := fun k => match k with
  | 0 => .int
  | 1 => .int
  | _ => .int
abbrev wsX130 : List Cond := u_ws RX13 TX13 3
theorem nmX13 : ∀ a, a < 3 → ∀ b, b < 3 → a ≠ b → (TX13 a).2.1 ≠ (TX13 b).2.1 := by decide +kernel
theorem tyX13_ok : ∀ k, k < 3 → parseFieldDescriptor (TX13 k).2.2.1 = some (tyX13 k) := by decide +kernel
abbrev cX13_init : ByteArray := prog_4_method_1_code
def yX13_init : MethodName := ⟨RX13, "<init>", "(III)V"⟩
def dkwX13_init_0 : List UInt8 := [42, 27, 28, 29, 183, 0, 1, 177]
abbrev dktX13_init_0 : List UInt8 := dkwX13_init_0 ++ []
theorem dksX13_init_0 : cX13_init.data.toList.drop 0 = dktX13_init_0 := by decide +kernel
theorem dX13_init_0 : decode cX13_init 0 = .ok (.aload_n 0, 1) := dk_42 (dk_at dksX13_init_0 0 rfl rfl)
theorem dX13_init_1 : decode cX13_init 1 = .ok (.iload_n 1, 1) := dk_27 (dk_at dksX13_init_0 1 rfl rfl)
theorem dX13_init_2 : decode cX13_init 2 = .ok (.iload_n 2, 1) := dk_28 (dk_at dksX13_init_0 2 rfl rfl)
theorem dX13_init_3 : decode cX13_init 3 = .ok (.iload_n 3, 1) := dk_29 (dk_at dksX13_init_0 3 rfl rfl)
theorem dX13_init_4 : decode cX13_init 4 = .ok (.invokespecial 1, 3) := dk_183 0 1 (dk_at dksX13_init_0 4 rfl rfl)
theorem dX13_init_7 : decode cX13_init 7 = .ok (.return_, 1) := dk_177 (dk_at dksX13_init_0 7 rfl rfl)
abbrev cX13_likes : ByteArray := prog_4_method_2_code
def yX13_likes : MethodName := ⟨RX13, "likes", "(IIII)Z"⟩
def dkwX13_likes_0 : List UInt8 := [27, 29, 164, 0, 7, 4, 167, 0, 4, 3, 172]
abbrev dktX13_likes_0 : List UInt8 := dkwX13_likes_0 ++ []
theorem dksX13_likes_0 : cX13_likes.data.toList.drop 0 = dktX13_likes_0 := by decide +kernel
theorem dX13_likes_0 : decode cX13_likes 0 = .ok (.iload_n 1, 1) := dk_27 (dk_at dksX13_likes_0 0 rfl rfl)
theorem dX13_likes_1 : decode cX13_likes 1 = .ok (.iload_n 3, 1) := dk_29 (dk_at dksX13_likes_0 1 rfl rfl)
theorem dX13_likes_2 : decode cX13_likes 2 = .ok (.if_icmp .le 7, 3) := dk_164 0 7 (dk_at dksX13_likes_0 2 rfl rfl)
theorem dX13_likes_5 : decode cX13_likes 5 = .ok (.iconst 1, 1) := dk_4 (dk_at dksX13_likes_0 5 rfl rfl)
theorem dX13_likes_6 : decode cX13_likes 6 = .ok (.goto 4, 3) := dk_167 0 4 (dk_at dksX13_likes_0 6 rfl rfl)
theorem dX13_likes_9 : decode cX13_likes 9 = .ok (.iconst 0, 1) := dk_3 (dk_at dksX13_likes_0 9 rfl rfl)
theorem dX13_likes_10 : decode cX13_likes 10 = .ok (.ireturn, 1) := dk_172 (dk_at dksX13_likes_0 10 rfl rfl)
theorem q169 : (Jvm.Cond.initialized "LockRail$Best") ∈ lw_all := lw_g (lw_at lw_m1 30 rfl) rfl
theorem q768 : (Jvm.Cond.selects "LockRail$Best" ({ cls := "java/lang/Object", name := "getClass", desc := "()Ljava/lang/Class;" } : Jvm.MethodName) ({ cls := "java/lang/Object", name := "getClass", desc := "()Ljava/lang/Class;" } : Jvm.MethodName)) ∈ lw_all := lw_g (lw_at lw_m3 149 rfl) rfl
theorem q893 : (Jvm.Cond.instantiable "LockRail$Best" (3 : Nat)) ∈ lw_all := lw_g (lw_at lw_m4 34 rfl) rfl
theorem q895 : (Jvm.Cond.instanceMethod ({ cls := "LockRail$Best", name := "<init>", desc := "(III)V" } : Jvm.MethodName)) ∈ lw_all := lw_g (lw_at lw_m4 36 rfl) rfl
theorem q896 : (Jvm.Cond.code ({ cls := "LockRail$Best", name := "<init>", desc := "(III)V" } : Jvm.MethodName) prog_4_method_1_code (4 : Nat) (Option.none : Option Jvm.ClassFile.FieldType)) ∈ lw_all := lw_g (lw_at lw_m4 37 rfl) rfl
theorem q897 : (Jvm.Cond.methodLink "LockRail$Best" (1 : Nat) ({ cls := "LockRail$Thief", name := "<init>", desc := "(III)V" } : Jvm.MethodName)) ∈ lw_all := lw_g (lw_at lw_m4 38 rfl) rfl
theorem q909 : (Jvm.Cond.laysFinal "LockRail$Best" "LockRail$Thief" "tool" "I") ∈ lw_all := lw_g (lw_at lw_m4 50 rfl) rfl
theorem q911 : (Jvm.Cond.laysFinal "LockRail$Best" "LockRail$Thief" "comes" "I") ∈ lw_all := lw_g (lw_at lw_m4 52 rfl) rfl
theorem q913 : (Jvm.Cond.laysFinal "LockRail$Best" "LockRail$Thief" "fears" "I") ∈ lw_all := lw_g (lw_at lw_m4 54 rfl) rfl
theorem q915 : (Jvm.Cond.superclass "LockRail$Best" "LockRail$Thief") ∈ lw_all := lw_g (lw_at lw_m4 56 rfl) rfl
theorem q1046 : (Jvm.Cond.selects "LockRail$Best" ({ cls := "LockRail$Thief", name := "takes", desc := "(LLockRail$Rail;I)I" } : Jvm.MethodName) ({ cls := "LockRail$Thief", name := "takes", desc := "(LLockRail$Rail;I)I" } : Jvm.MethodName)) ∈ lw_all := lw_g (lw_at lw_m4 187 rfl) rfl
theorem q1060 : (Jvm.Cond.selects "LockRail$Best" ({ cls := "LockRail$Thief", name := "looksAt", desc := "(I)Z" } : Jvm.MethodName) ({ cls := "LockRail$Thief", name := "looksAt", desc := "(I)Z" } : Jvm.MethodName)) ∈ lw_all := lw_g (lw_at lw_m4 201 rfl) rfl
theorem q1073 : (Jvm.Cond.selects "LockRail$Best" ({ cls := "LockRail$Thief", name := "likes", desc := "(IIII)Z" } : Jvm.MethodName) ({ cls := "LockRail$Best", name := "likes", desc := "(IIII)Z" } : Jvm.MethodName)) ∈ lw_all := lw_g (lw_at lw_m4 214 rfl) rfl
theorem q1074 : (Jvm.Cond.instanceMethod ({ cls := "LockRail$Best", name := "likes", desc := "(IIII)Z" } : Jvm.MethodName)) ∈ lw_all := lw_g (lw_at lw_m4 215 rfl) rfl
theorem q1075 : (Jvm.Cond.code ({ cls := "LockRail$Best", name := "likes", desc := "(IIII)Z" } : Jvm.MethodName) prog_4_method_2_code (5 : Nat) (Option.some Jvm.ClassFile.FieldType.boolean)) ∈ lw_all := lw_g (lw_at lw_m4 216 rfl) rfl
theorem q2535 : (Jvm.Cond.castable "LockRail$Best" "LockRail$Thief") ∈ lw_tbl := lw_at lw_m10 236 rfl
theorem q2551 : (Jvm.Cond.castable "LockRail$Best" "java/lang/Object") ∈ lw_tbl := lw_at lw_m11 12 rfl
theorem in_X13 : ∀ w ∈ wsX130, w ∈ lw_all := lw_in wsX130 [909, 911, 913] (by decide +kernel) (by decide +kernel)

/-! LockRail$Any -/
set_option maxRecDepth 100000
def RX14 : String := "LockRail$Any"
def TX14 : u_T := fun k => match k with
  | 0 => ("LockRail$Thief", "tool", "I", true)
  | 1 => ("LockRail$Thief", "comes", "I", true)
  | _ => ("LockRail$Thief", "fears", "I", true)
def tyX14 : Nat → FieldType := fun k => match k with
  | 0 => .int
  | 1 => .int
  | _ => .int
abbrev wsX140 : List Cond := u_ws RX14 TX14 3
theorem nmX14 : ∀ a, a < 3 → ∀ b, b < 3 → a ≠ b → (TX14 a).2.1 ≠ (TX14 b).2.1 := by decide +kernel
theorem tyX14_ok : ∀ k, k < 3 → parseFieldDescriptor (TX14 k).2.2.1 = some (tyX14 k) := by decide +kernel
abbrev cX14_init : ByteArray := prog_2_method_1_code
def yX14_init : MethodName := ⟨RX14, "<init>", "(III)V"⟩
def dkwX14_init_0 : List UInt8 := [42, 27, 28, 29, 183, 0, 1, 177]
abbrev dktX14_init_0 : List UInt8 := dkwX14_init_0 ++ []
theorem dksX14_init_0 : cX14_init.data.toList.drop 0 = dktX14_init_0 := by decide +kernel
theorem dX14_init_0 : decode cX14_init 0 = .ok (.aload_n 0, 1) := dk_42 (dk_at dksX14_init_0 0 rfl rfl)
theorem dX14_init_1 : decode cX14_init 1 = .ok (.iload_n 1, 1) := dk_27 (dk_at dksX14_init_0 1 rfl rfl)
theorem dX14_init_2 : decode cX14_init 2 = .ok (.iload_n 2, 1) := dk_28 (dk_at dksX14_init_0 2 rfl rfl)
theorem dX14_init_3 : decode cX14_init 3 = .ok (.iload_n 3, 1) := dk_29 (dk_at dksX14_init_0 3 rfl rfl)
theorem dX14_init_4 : decode cX14_init 4 = .ok (.invokespecial 1, 3) := dk_183 0 1 (dk_at dksX14_init_0 4 rfl rfl)
theorem dX14_init_7 : decode cX14_init 7 = .ok (.return_, 1) := dk_177 (dk_at dksX14_init_0 7 rfl rfl)
abbrev cX14_likes : ByteArray := prog_2_method_2_code
def yX14_likes : MethodName := ⟨RX14, "likes", "(IIII)Z"⟩
def dkwX14_likes_0 : List UInt8 := [28, 21, 4, 162, 0, 7, 4, 167, 0, 4, 3, 172]
abbrev dktX14_likes_0 : List UInt8 := dkwX14_likes_0 ++ []
theorem dksX14_likes_0 : cX14_likes.data.toList.drop 0 = dktX14_likes_0 := by decide +kernel
theorem dX14_likes_0 : decode cX14_likes 0 = .ok (.iload_n 2, 1) := dk_28 (dk_at dksX14_likes_0 0 rfl rfl)
theorem dX14_likes_1 : decode cX14_likes 1 = .ok (.iload 4, 2) := dk_21 4 (dk_at dksX14_likes_0 1 rfl rfl)
theorem dX14_likes_3 : decode cX14_likes 3 = .ok (.if_icmp .ge 7, 3) := dk_162 0 7 (dk_at dksX14_likes_0 3 rfl rfl)
theorem dX14_likes_6 : decode cX14_likes 6 = .ok (.iconst 1, 1) := dk_4 (dk_at dksX14_likes_0 6 rfl rfl)
theorem dX14_likes_7 : decode cX14_likes 7 = .ok (.goto 4, 3) := dk_167 0 4 (dk_at dksX14_likes_0 7 rfl rfl)
theorem dX14_likes_10 : decode cX14_likes 10 = .ok (.iconst 0, 1) := dk_3 (dk_at dksX14_likes_0 10 rfl rfl)
theorem dX14_likes_11 : decode cX14_likes 11 = .ok (.ireturn, 1) := dk_172 (dk_at dksX14_likes_0 11 rfl rfl)
theorem q170 : (Jvm.Cond.initialized "LockRail$Any") ∈ lw_all := lw_g (lw_at lw_m1 31 rfl) rfl
theorem q766 : (Jvm.Cond.selects "LockRail$Any" ({ cls := "java/lang/Object", name := "getClass", desc := "()Ljava/lang/Class;" } : Jvm.MethodName) ({ cls := "java/lang/Object", name := "getClass", desc := "()Ljava/lang/Class;" } : Jvm.MethodName)) ∈ lw_all := lw_g (lw_at lw_m3 147 rfl) rfl
theorem q918 : (Jvm.Cond.instantiable "LockRail$Any" (3 : Nat)) ∈ lw_all := lw_g (lw_at lw_m4 59 rfl) rfl
theorem q920 : (Jvm.Cond.instanceMethod ({ cls := "LockRail$Any", name := "<init>", desc := "(III)V" } : Jvm.MethodName)) ∈ lw_all := lw_g (lw_at lw_m4 61 rfl) rfl
theorem q921 : (Jvm.Cond.code ({ cls := "LockRail$Any", name := "<init>", desc := "(III)V" } : Jvm.MethodName) prog_2_method_1_code (4 : Nat) (Option.none : Option Jvm.ClassFile.FieldType)) ∈ lw_all := lw_g (lw_at lw_m4 62 rfl) rfl
theorem q922 : (Jvm.Cond.methodLink "LockRail$Any" (1 : Nat) ({ cls := "LockRail$Thief", name := "<init>", desc := "(III)V" } : Jvm.MethodName)) ∈ lw_all := lw_g (lw_at lw_m4 63 rfl) rfl
theorem q923 : (Jvm.Cond.laysFinal "LockRail$Any" "LockRail$Thief" "tool" "I") ∈ lw_all := lw_g (lw_at lw_m4 64 rfl) rfl
theorem q924 : (Jvm.Cond.laysFinal "LockRail$Any" "LockRail$Thief" "comes" "I") ∈ lw_all := lw_g (lw_at lw_m4 65 rfl) rfl
theorem q925 : (Jvm.Cond.laysFinal "LockRail$Any" "LockRail$Thief" "fears" "I") ∈ lw_all := lw_g (lw_at lw_m4 66 rfl) rfl
theorem q926 : (Jvm.Cond.superclass "LockRail$Any" "LockRail$Thief") ∈ lw_all := lw_g (lw_at lw_m4 67 rfl) rfl
theorem q1045 : (Jvm.Cond.selects "LockRail$Any" ({ cls := "LockRail$Thief", name := "takes", desc := "(LLockRail$Rail;I)I" } : Jvm.MethodName) ({ cls := "LockRail$Thief", name := "takes", desc := "(LLockRail$Rail;I)I" } : Jvm.MethodName)) ∈ lw_all := lw_g (lw_at lw_m4 186 rfl) rfl
theorem q1059 : (Jvm.Cond.selects "LockRail$Any" ({ cls := "LockRail$Thief", name := "looksAt", desc := "(I)Z" } : Jvm.MethodName) ({ cls := "LockRail$Thief", name := "looksAt", desc := "(I)Z" } : Jvm.MethodName)) ∈ lw_all := lw_g (lw_at lw_m4 200 rfl) rfl
theorem q1070 : (Jvm.Cond.selects "LockRail$Any" ({ cls := "LockRail$Thief", name := "likes", desc := "(IIII)Z" } : Jvm.MethodName) ({ cls := "LockRail$Any", name := "likes", desc := "(IIII)Z" } : Jvm.MethodName)) ∈ lw_all := lw_g (lw_at lw_m4 211 rfl) rfl
theorem q1071 : (Jvm.Cond.instanceMethod ({ cls := "LockRail$Any", name := "likes", desc := "(IIII)Z" } : Jvm.MethodName)) ∈ lw_all := lw_g (lw_at lw_m4 212 rfl) rfl
theorem q1072 : (Jvm.Cond.code ({ cls := "LockRail$Any", name := "likes", desc := "(IIII)Z" } : Jvm.MethodName) prog_2_method_2_code (5 : Nat) (Option.some Jvm.ClassFile.FieldType.boolean)) ∈ lw_all := lw_g (lw_at lw_m4 213 rfl) rfl
theorem q2534 : (Jvm.Cond.castable "LockRail$Any" "LockRail$Thief") ∈ lw_tbl := lw_at lw_m10 235 rfl
theorem q2552 : (Jvm.Cond.castable "LockRail$Any" "java/lang/Object") ∈ lw_tbl := lw_at lw_m11 13 rfl
theorem in_X14 : ∀ w ∈ wsX140, w ∈ lw_all := lw_in wsX140 [923, 924, 925] (by decide +kernel) (by decide +kernel)

/-! LockRail$Just -/
set_option maxRecDepth 100000
def RX15 : String := "LockRail$Just"
def TX15 : u_T := fun k => match k with
  | 0 => ("LockRail$Thief", "tool", "I", true)
  | 1 => ("LockRail$Thief", "comes", "I", true)
  | 2 => ("LockRail$Thief", "fears", "I", true)
  | _ => ("LockRail$Just", "one", "I", true)
def tyX15 : Nat → FieldType := fun k => match k with
  | 0 => .int
  | 1 => .int
  | 2 => .int
  | _ => .int
abbrev wsX150 : List Cond := u_ws RX15 TX15 4
theorem nmX15 : ∀ a, a < 4 → ∀ b, b < 4 → a ≠ b → (TX15 a).2.1 ≠ (TX15 b).2.1 := by decide +kernel
theorem tyX15_ok : ∀ k, k < 4 → parseFieldDescriptor (TX15 k).2.2.1 = some (tyX15 k) := by decide +kernel
abbrev cX15_init : ByteArray := prog_9_method_1_code
def yX15_init : MethodName := ⟨RX15, "<init>", "(IIII)V"⟩
def dkwX15_init_0 : List UInt8 := [42, 27, 28, 29, 183, 0, 1, 42, 21, 4, 181, 0, 7, 177]
abbrev dktX15_init_0 : List UInt8 := dkwX15_init_0 ++ []
theorem dksX15_init_0 : cX15_init.data.toList.drop 0 = dktX15_init_0 := by decide +kernel
theorem dX15_init_0 : decode cX15_init 0 = .ok (.aload_n 0, 1) := dk_42 (dk_at dksX15_init_0 0 rfl rfl)
theorem dX15_init_1 : decode cX15_init 1 = .ok (.iload_n 1, 1) := dk_27 (dk_at dksX15_init_0 1 rfl rfl)
theorem dX15_init_2 : decode cX15_init 2 = .ok (.iload_n 2, 1) := dk_28 (dk_at dksX15_init_0 2 rfl rfl)
theorem dX15_init_3 : decode cX15_init 3 = .ok (.iload_n 3, 1) := dk_29 (dk_at dksX15_init_0 3 rfl rfl)
theorem dX15_init_4 : decode cX15_init 4 = .ok (.invokespecial 1, 3) := dk_183 0 1 (dk_at dksX15_init_0 4 rfl rfl)
theorem dX15_init_7 : decode cX15_init 7 = .ok (.aload_n 0, 1) := dk_42 (dk_at dksX15_init_0 7 rfl rfl)
theorem dX15_init_8 : decode cX15_init 8 = .ok (.iload 4, 2) := dk_21 4 (dk_at dksX15_init_0 8 rfl rfl)
theorem dX15_init_10 : decode cX15_init 10 = .ok (.putfield 7, 3) := dk_181 0 7 (dk_at dksX15_init_0 10 rfl rfl)
theorem dX15_init_13 : decode cX15_init 13 = .ok (.return_, 1) := dk_177 (dk_at dksX15_init_0 13 rfl rfl)
abbrev cX15_looksAt : ByteArray := prog_9_method_2_code
def yX15_looksAt : MethodName := ⟨RX15, "looksAt", "(I)Z"⟩
def dkwX15_looksAt_0 : List UInt8 := [27, 42, 180, 0, 7, 160, 0, 7, 4, 167, 0, 4, 3, 172]
abbrev dktX15_looksAt_0 : List UInt8 := dkwX15_looksAt_0 ++ []
theorem dksX15_looksAt_0 : cX15_looksAt.data.toList.drop 0 = dktX15_looksAt_0 := by decide +kernel
theorem dX15_looksAt_0 : decode cX15_looksAt 0 = .ok (.iload_n 1, 1) := dk_27 (dk_at dksX15_looksAt_0 0 rfl rfl)
theorem dX15_looksAt_1 : decode cX15_looksAt 1 = .ok (.aload_n 0, 1) := dk_42 (dk_at dksX15_looksAt_0 1 rfl rfl)
theorem dX15_looksAt_2 : decode cX15_looksAt 2 = .ok (.getfield 7, 3) := dk_180 0 7 (dk_at dksX15_looksAt_0 2 rfl rfl)
theorem dX15_looksAt_5 : decode cX15_looksAt 5 = .ok (.if_icmp .ne 7, 3) := dk_160 0 7 (dk_at dksX15_looksAt_0 5 rfl rfl)
theorem dX15_looksAt_8 : decode cX15_looksAt 8 = .ok (.iconst 1, 1) := dk_4 (dk_at dksX15_looksAt_0 8 rfl rfl)
theorem dX15_looksAt_9 : decode cX15_looksAt 9 = .ok (.goto 4, 3) := dk_167 0 4 (dk_at dksX15_looksAt_0 9 rfl rfl)
theorem dX15_looksAt_12 : decode cX15_looksAt 12 = .ok (.iconst 0, 1) := dk_3 (dk_at dksX15_looksAt_0 12 rfl rfl)
theorem dX15_looksAt_13 : decode cX15_looksAt 13 = .ok (.ireturn, 1) := dk_172 (dk_at dksX15_looksAt_0 13 rfl rfl)
theorem q171 : (Jvm.Cond.initialized "LockRail$Just") ∈ lw_all := lw_g (lw_at lw_m1 32 rfl) rfl
theorem q773 : (Jvm.Cond.selects "LockRail$Just" ({ cls := "java/lang/Object", name := "getClass", desc := "()Ljava/lang/Class;" } : Jvm.MethodName) ({ cls := "java/lang/Object", name := "getClass", desc := "()Ljava/lang/Class;" } : Jvm.MethodName)) ∈ lw_all := lw_g (lw_at lw_m3 154 rfl) rfl
theorem q928 : (Jvm.Cond.instantiable "LockRail$Just" (4 : Nat)) ∈ lw_all := lw_g (lw_at lw_m4 69 rfl) rfl
theorem q935 : (Jvm.Cond.instanceMethod ({ cls := "LockRail$Just", name := "<init>", desc := "(IIII)V" } : Jvm.MethodName)) ∈ lw_all := lw_g (lw_at lw_m4 76 rfl) rfl
theorem q936 : (Jvm.Cond.code ({ cls := "LockRail$Just", name := "<init>", desc := "(IIII)V" } : Jvm.MethodName) prog_9_method_1_code (5 : Nat) (Option.none : Option Jvm.ClassFile.FieldType)) ∈ lw_all := lw_g (lw_at lw_m4 77 rfl) rfl
theorem q937 : (Jvm.Cond.methodLink "LockRail$Just" (1 : Nat) ({ cls := "LockRail$Any", name := "<init>", desc := "(III)V" } : Jvm.MethodName)) ∈ lw_all := lw_g (lw_at lw_m4 78 rfl) rfl
theorem q938 : (Jvm.Cond.fieldLink "LockRail$Just" (7 : Nat) "LockRail$Just" "one" "I") ∈ lw_all := lw_g (lw_at lw_m4 79 rfl) rfl
theorem q939 : (Jvm.Cond.laysFinal "LockRail$Just" "LockRail$Just" "one" "I") ∈ lw_all := lw_g (lw_at lw_m4 80 rfl) rfl
theorem q940 : (Jvm.Cond.soleField "LockRail$Just" "one") ∈ lw_all := lw_g (lw_at lw_m4 81 rfl) rfl
theorem q941 : (Jvm.Cond.laysFinal "LockRail$Just" "LockRail$Thief" "tool" "I") ∈ lw_all := lw_g (lw_at lw_m4 82 rfl) rfl
theorem q942 : (Jvm.Cond.laysFinal "LockRail$Just" "LockRail$Thief" "comes" "I") ∈ lw_all := lw_g (lw_at lw_m4 83 rfl) rfl
theorem q943 : (Jvm.Cond.laysFinal "LockRail$Just" "LockRail$Thief" "fears" "I") ∈ lw_all := lw_g (lw_at lw_m4 84 rfl) rfl
theorem q944 : (Jvm.Cond.superclass "LockRail$Just" "LockRail$Any") ∈ lw_all := lw_g (lw_at lw_m4 85 rfl) rfl
theorem q1047 : (Jvm.Cond.selects "LockRail$Just" ({ cls := "LockRail$Thief", name := "takes", desc := "(LLockRail$Rail;I)I" } : Jvm.MethodName) ({ cls := "LockRail$Thief", name := "takes", desc := "(LLockRail$Rail;I)I" } : Jvm.MethodName)) ∈ lw_all := lw_g (lw_at lw_m4 188 rfl) rfl
theorem q1061 : (Jvm.Cond.selects "LockRail$Just" ({ cls := "LockRail$Thief", name := "looksAt", desc := "(I)Z" } : Jvm.MethodName) ({ cls := "LockRail$Just", name := "looksAt", desc := "(I)Z" } : Jvm.MethodName)) ∈ lw_all := lw_g (lw_at lw_m4 202 rfl) rfl
theorem q1062 : (Jvm.Cond.instanceMethod ({ cls := "LockRail$Just", name := "looksAt", desc := "(I)Z" } : Jvm.MethodName)) ∈ lw_all := lw_g (lw_at lw_m4 203 rfl) rfl
theorem q1063 : (Jvm.Cond.code ({ cls := "LockRail$Just", name := "looksAt", desc := "(I)Z" } : Jvm.MethodName) prog_9_method_2_code (2 : Nat) (Option.some Jvm.ClassFile.FieldType.boolean)) ∈ lw_all := lw_g (lw_at lw_m4 204 rfl) rfl
theorem q1076 : (Jvm.Cond.selects "LockRail$Just" ({ cls := "LockRail$Thief", name := "likes", desc := "(IIII)Z" } : Jvm.MethodName) ({ cls := "LockRail$Any", name := "likes", desc := "(IIII)Z" } : Jvm.MethodName)) ∈ lw_all := lw_g (lw_at lw_m4 217 rfl) rfl
theorem q2536 : (Jvm.Cond.castable "LockRail$Just" "LockRail$Thief") ∈ lw_tbl := lw_at lw_m10 237 rfl
theorem q2553 : (Jvm.Cond.castable "LockRail$Just" "java/lang/Object") ∈ lw_tbl := lw_at lw_m11 14 rfl
theorem in_X15 : ∀ w ∈ wsX150, w ∈ lw_all := lw_in wsX150 [941, 942, 943, 939] (by decide +kernel) (by decide +kernel)

/-! LockRail$Baited -/
set_option maxRecDepth 100000
def RX16 : String := "LockRail$Baited"
def TX16 : u_T := fun k => match k with
  | 0 => ("LockRail$Baited", "parts", "[J", true)
  | 1 => ("LockRail$Baited", "then", "[J", true)
  | 2 => ("LockRail$Baited", "cells", "[I", false)
  | 3 => ("LockRail$Baited", "nextCells", "[I", false)
  | 4 => ("LockRail$Baited", "many", "I", false)
  | 5 => ("LockRail$Baited", "nextMany", "I", false)
  | 6 => ("LockRail$Baited", "lost", "J", false)
  | _ => ("LockRail$Baited", "this$0", "LLockRail;", true)
def tyX16 : Nat → FieldType := fun k => match k with
  | 0 => .array .long
  | 1 => .array .long
  | 2 => .array .int
  | 3 => .array .int
  | 4 => .int
  | 5 => .int
  | 6 => .long
  | _ => .object "LockRail"
abbrev wsX160 : List Cond := u_ws RX16 TX16 8
theorem nmX16 : ∀ a, a < 8 → ∀ b, b < 8 → a ≠ b → (TX16 a).2.1 ≠ (TX16 b).2.1 := by decide +kernel
theorem tyX16_ok : ∀ k, k < 8 → parseFieldDescriptor (TX16 k).2.2.1 = some (tyX16 k) := by decide +kernel
abbrev cX16_init : ByteArray := prog_3_method_1_code
def yX16_init : MethodName := ⟨RX16, "<init>", "(LLockRail;)V"⟩
def dkwX16_init_1 : List UInt8 := [181, 0, 20, 42, 18, 15, 188, 10, 181, 0, 23, 42, 18, 15, 188, 10, 181, 0, 27, 177]
abbrev dktX16_init_1 : List UInt8 := dkwX16_init_1 ++ []
def dkwX16_init_0 : List UInt8 := [42, 43, 181, 0, 3, 42, 183, 0, 9, 42, 18, 15, 188, 11, 181, 0, 16, 42, 18, 15, 188, 11]
abbrev dktX16_init_0 : List UInt8 := dkwX16_init_0 ++ dktX16_init_1
theorem dksX16_init_0 : cX16_init.data.toList.drop 0 = dktX16_init_0 := by decide +kernel
theorem dksX16_init_1 : cX16_init.data.toList.drop 22 = dktX16_init_1 := dk_seg dksX16_init_0 22 rfl rfl
theorem dX16_init_0 : decode cX16_init 0 = .ok (.aload_n 0, 1) := dk_42 (dk_at dksX16_init_0 0 rfl rfl)
theorem dX16_init_1 : decode cX16_init 1 = .ok (.aload_n 1, 1) := dk_43 (dk_at dksX16_init_0 1 rfl rfl)
theorem dX16_init_2 : decode cX16_init 2 = .ok (.putfield 3, 3) := dk_181 0 3 (dk_at dksX16_init_0 2 rfl rfl)
theorem dX16_init_5 : decode cX16_init 5 = .ok (.aload_n 0, 1) := dk_42 (dk_at dksX16_init_0 5 rfl rfl)
theorem dX16_init_6 : decode cX16_init 6 = .ok (.invokespecial 9, 3) := dk_183 0 9 (dk_at dksX16_init_0 6 rfl rfl)
theorem dX16_init_9 : decode cX16_init 9 = .ok (.aload_n 0, 1) := dk_42 (dk_at dksX16_init_0 9 rfl rfl)
theorem dX16_init_10 : decode cX16_init 10 = .ok (.ldc 15, 2) := dk_18 15 (dk_at dksX16_init_0 10 rfl rfl)
theorem dX16_init_12 : decode cX16_init 12 = .ok (.newarray .long, 2) := dk_188_11 (dk_at dksX16_init_0 12 rfl rfl)
theorem dX16_init_14 : decode cX16_init 14 = .ok (.putfield 16, 3) := dk_181 0 16 (dk_at dksX16_init_0 14 rfl rfl)
theorem dX16_init_17 : decode cX16_init 17 = .ok (.aload_n 0, 1) := dk_42 (dk_at dksX16_init_0 17 rfl rfl)
theorem dX16_init_18 : decode cX16_init 18 = .ok (.ldc 15, 2) := dk_18 15 (dk_at dksX16_init_0 18 rfl rfl)
theorem dX16_init_20 : decode cX16_init 20 = .ok (.newarray .long, 2) := dk_188_11 (dk_at dksX16_init_0 20 rfl rfl)
theorem dX16_init_22 : decode cX16_init 22 = .ok (.putfield 20, 3) := dk_181 0 20 (dk_at dksX16_init_1 0 rfl rfl)
theorem dX16_init_25 : decode cX16_init 25 = .ok (.aload_n 0, 1) := dk_42 (dk_at dksX16_init_1 3 rfl rfl)
theorem dX16_init_26 : decode cX16_init 26 = .ok (.ldc 15, 2) := dk_18 15 (dk_at dksX16_init_1 4 rfl rfl)
theorem dX16_init_28 : decode cX16_init 28 = .ok (.newarray .int, 2) := dk_188_10 (dk_at dksX16_init_1 6 rfl rfl)
theorem dX16_init_30 : decode cX16_init 30 = .ok (.putfield 23, 3) := dk_181 0 23 (dk_at dksX16_init_1 8 rfl rfl)
theorem dX16_init_33 : decode cX16_init 33 = .ok (.aload_n 0, 1) := dk_42 (dk_at dksX16_init_1 11 rfl rfl)
theorem dX16_init_34 : decode cX16_init 34 = .ok (.ldc 15, 2) := dk_18 15 (dk_at dksX16_init_1 12 rfl rfl)
theorem dX16_init_36 : decode cX16_init 36 = .ok (.newarray .int, 2) := dk_188_10 (dk_at dksX16_init_1 14 rfl rfl)
theorem dX16_init_38 : decode cX16_init 38 = .ok (.putfield 27, 3) := dk_181 0 27 (dk_at dksX16_init_1 16 rfl rfl)
theorem dX16_init_41 : decode cX16_init 41 = .ok (.return_, 1) := dk_177 (dk_at dksX16_init_1 19 rfl rfl)
abbrev cX16_lay : ByteArray := prog_3_method_6_code
def yX16_lay : MethodName := ⟨RX16, "lay", "(I)LLockRail$Baited;"⟩
def dkwX16_lay_8 : List UInt8 := [167, 255, 130, 42, 176]
abbrev dktX16_lay_8 : List UInt8 := dkwX16_lay_8 ++ []
def dkwX16_lay_7 : List UInt8 := [180, 0, 23, 29, 46, 47, 182, 0, 69, 132, 3, 1, 167, 255, 187, 42, 182, 0, 77, 132, 2, 1]
abbrev dktX16_lay_7 : List UInt8 := dkwX16_lay_7 ++ dktX16_lay_8
def dkwX16_lay_6 : List UInt8 := [182, 0, 103, 105, 97, 181, 0, 88, 42, 42, 180, 0, 23, 29, 46, 16, 64, 112, 42, 180, 0, 16, 42]
abbrev dktX16_lay_6 : List UInt8 := dkwX16_lay_6 ++ dktX16_lay_7
def dkwX16_lay_5 : List UInt8 := [180, 0, 88, 42, 180, 0, 16, 42, 180, 0, 23, 29, 46, 47, 42, 42, 180, 0, 23, 29, 46, 16, 64, 108]
abbrev dktX16_lay_5 : List UInt8 := dkwX16_lay_5 ++ dktX16_lay_6
def dkwX16_lay_4 : List UInt8 := [27, 182, 0, 100, 132, 3, 1, 167, 255, 230, 3, 62, 29, 42, 180, 0, 34, 162, 0, 67, 42, 89]
abbrev dktX16_lay_4 : List UInt8 := dkwX16_lay_4 ++ dktX16_lay_5
def dkwX16_lay_3 : List UInt8 := [162, 0, 118, 3, 62, 29, 42, 180, 0, 3, 180, 0, 37, 180, 0, 41, 182, 0, 97, 162, 0, 15, 42, 29]
abbrev dktX16_lay_3 : List UInt8 := dkwX16_lay_3 ++ dktX16_lay_4
def dkwX16_lay_2 : List UInt8 := [20, 0, 92, 182, 0, 69, 42, 182, 0, 77, 3, 61, 28, 42, 180, 0, 3, 180, 0, 37, 180, 0, 94]
abbrev dktX16_lay_2 : List UInt8 := dkwX16_lay_2 ++ dktX16_lay_3
def dkwX16_lay_1 : List UInt8 := [132, 2, 1, 167, 255, 233, 42, 3, 181, 0, 34, 42, 3, 181, 0, 30, 42, 9, 181, 0, 88, 42, 3]
abbrev dktX16_lay_1 : List UInt8 := dkwX16_lay_1 ++ dktX16_lay_2
def dkwX16_lay_0 : List UInt8 := [3, 61, 28, 42, 180, 0, 34, 162, 0, 21, 42, 180, 0, 16, 42, 180, 0, 23, 28, 46, 9, 80]
abbrev dktX16_lay_0 : List UInt8 := dkwX16_lay_0 ++ dktX16_lay_1
theorem dksX16_lay_0 : cX16_lay.data.toList.drop 0 = dktX16_lay_0 := by decide +kernel
theorem dksX16_lay_1 : cX16_lay.data.toList.drop 22 = dktX16_lay_1 := dk_seg dksX16_lay_0 22 rfl rfl
theorem dksX16_lay_2 : cX16_lay.data.toList.drop 45 = dktX16_lay_2 := dk_seg dksX16_lay_1 23 rfl rfl
theorem dksX16_lay_3 : cX16_lay.data.toList.drop 68 = dktX16_lay_3 := dk_seg dksX16_lay_2 23 rfl rfl
theorem dksX16_lay_4 : cX16_lay.data.toList.drop 92 = dktX16_lay_4 := dk_seg dksX16_lay_3 24 rfl rfl
theorem dksX16_lay_5 : cX16_lay.data.toList.drop 114 = dktX16_lay_5 := dk_seg dksX16_lay_4 22 rfl rfl
theorem dksX16_lay_6 : cX16_lay.data.toList.drop 138 = dktX16_lay_6 := dk_seg dksX16_lay_5 24 rfl rfl
theorem dksX16_lay_7 : cX16_lay.data.toList.drop 161 = dktX16_lay_7 := dk_seg dksX16_lay_6 23 rfl rfl
theorem dksX16_lay_8 : cX16_lay.data.toList.drop 183 = dktX16_lay_8 := dk_seg dksX16_lay_7 22 rfl rfl
theorem dX16_lay_0 : decode cX16_lay 0 = .ok (.iconst 0, 1) := dk_3 (dk_at dksX16_lay_0 0 rfl rfl)
theorem dX16_lay_1 : decode cX16_lay 1 = .ok (.istore_n 2, 1) := dk_61 (dk_at dksX16_lay_0 1 rfl rfl)
theorem dX16_lay_2 : decode cX16_lay 2 = .ok (.iload_n 2, 1) := dk_28 (dk_at dksX16_lay_0 2 rfl rfl)
theorem dX16_lay_3 : decode cX16_lay 3 = .ok (.aload_n 0, 1) := dk_42 (dk_at dksX16_lay_0 3 rfl rfl)
theorem dX16_lay_4 : decode cX16_lay 4 = .ok (.getfield 34, 3) := dk_180 0 34 (dk_at dksX16_lay_0 4 rfl rfl)
theorem dX16_lay_7 : decode cX16_lay 7 = .ok (.if_icmp .ge 21, 3) := dk_162 0 21 (dk_at dksX16_lay_0 7 rfl rfl)
theorem dX16_lay_10 : decode cX16_lay 10 = .ok (.aload_n 0, 1) := dk_42 (dk_at dksX16_lay_0 10 rfl rfl)
theorem dX16_lay_11 : decode cX16_lay 11 = .ok (.getfield 16, 3) := dk_180 0 16 (dk_at dksX16_lay_0 11 rfl rfl)
theorem dX16_lay_14 : decode cX16_lay 14 = .ok (.aload_n 0, 1) := dk_42 (dk_at dksX16_lay_0 14 rfl rfl)
theorem dX16_lay_15 : decode cX16_lay 15 = .ok (.getfield 23, 3) := dk_180 0 23 (dk_at dksX16_lay_0 15 rfl rfl)
theorem dX16_lay_18 : decode cX16_lay 18 = .ok (.iload_n 2, 1) := dk_28 (dk_at dksX16_lay_0 18 rfl rfl)
theorem dX16_lay_19 : decode cX16_lay 19 = .ok (.iaload, 1) := dk_46 (dk_at dksX16_lay_0 19 rfl rfl)
theorem dX16_lay_20 : decode cX16_lay 20 = .ok (.lconst 0, 1) := dk_9 (dk_at dksX16_lay_0 20 rfl rfl)
theorem dX16_lay_21 : decode cX16_lay 21 = .ok (.lastore, 1) := dk_80 (dk_at dksX16_lay_0 21 rfl rfl)
theorem dX16_lay_22 : decode cX16_lay 22 = .ok (.iinc 2 1, 3) := dk_132 2 1 (dk_at dksX16_lay_1 0 rfl rfl)
theorem dX16_lay_25 : decode cX16_lay 25 = .ok (.goto (-23), 3) := dk_167 255 233 (dk_at dksX16_lay_1 3 rfl rfl)
theorem dX16_lay_28 : decode cX16_lay 28 = .ok (.aload_n 0, 1) := dk_42 (dk_at dksX16_lay_1 6 rfl rfl)
theorem dX16_lay_29 : decode cX16_lay 29 = .ok (.iconst 0, 1) := dk_3 (dk_at dksX16_lay_1 7 rfl rfl)
theorem dX16_lay_30 : decode cX16_lay 30 = .ok (.putfield 34, 3) := dk_181 0 34 (dk_at dksX16_lay_1 8 rfl rfl)
theorem dX16_lay_33 : decode cX16_lay 33 = .ok (.aload_n 0, 1) := dk_42 (dk_at dksX16_lay_1 11 rfl rfl)
theorem dX16_lay_34 : decode cX16_lay 34 = .ok (.iconst 0, 1) := dk_3 (dk_at dksX16_lay_1 12 rfl rfl)
theorem dX16_lay_35 : decode cX16_lay 35 = .ok (.putfield 30, 3) := dk_181 0 30 (dk_at dksX16_lay_1 13 rfl rfl)
theorem dX16_lay_38 : decode cX16_lay 38 = .ok (.aload_n 0, 1) := dk_42 (dk_at dksX16_lay_1 16 rfl rfl)
theorem dX16_lay_39 : decode cX16_lay 39 = .ok (.lconst 0, 1) := dk_9 (dk_at dksX16_lay_1 17 rfl rfl)
theorem dX16_lay_40 : decode cX16_lay 40 = .ok (.putfield 88, 3) := dk_181 0 88 (dk_at dksX16_lay_1 18 rfl rfl)
theorem dX16_lay_43 : decode cX16_lay 43 = .ok (.aload_n 0, 1) := dk_42 (dk_at dksX16_lay_1 21 rfl rfl)
theorem dX16_lay_44 : decode cX16_lay 44 = .ok (.iconst 0, 1) := dk_3 (dk_at dksX16_lay_1 22 rfl rfl)
theorem dX16_lay_45 : decode cX16_lay 45 = .ok (.ldc2_w 92, 3) := dk_20 0 92 (dk_at dksX16_lay_2 0 rfl rfl)
theorem dX16_lay_48 : decode cX16_lay 48 = .ok (.invokevirtual 69, 3) := dk_182 0 69 (dk_at dksX16_lay_2 3 rfl rfl)
theorem dX16_lay_51 : decode cX16_lay 51 = .ok (.aload_n 0, 1) := dk_42 (dk_at dksX16_lay_2 6 rfl rfl)
theorem dX16_lay_52 : decode cX16_lay 52 = .ok (.invokevirtual 77, 3) := dk_182 0 77 (dk_at dksX16_lay_2 7 rfl rfl)
theorem dX16_lay_55 : decode cX16_lay 55 = .ok (.iconst 0, 1) := dk_3 (dk_at dksX16_lay_2 10 rfl rfl)
theorem dX16_lay_56 : decode cX16_lay 56 = .ok (.istore_n 2, 1) := dk_61 (dk_at dksX16_lay_2 11 rfl rfl)
theorem dX16_lay_57 : decode cX16_lay 57 = .ok (.iload_n 2, 1) := dk_28 (dk_at dksX16_lay_2 12 rfl rfl)
theorem dX16_lay_58 : decode cX16_lay 58 = .ok (.aload_n 0, 1) := dk_42 (dk_at dksX16_lay_2 13 rfl rfl)
theorem dX16_lay_59 : decode cX16_lay 59 = .ok (.getfield 3, 3) := dk_180 0 3 (dk_at dksX16_lay_2 14 rfl rfl)
theorem dX16_lay_62 : decode cX16_lay 62 = .ok (.getfield 37, 3) := dk_180 0 37 (dk_at dksX16_lay_2 17 rfl rfl)
theorem dX16_lay_65 : decode cX16_lay 65 = .ok (.getfield 94, 3) := dk_180 0 94 (dk_at dksX16_lay_2 20 rfl rfl)
theorem dX16_lay_68 : decode cX16_lay 68 = .ok (.if_icmp .ge 118, 3) := dk_162 0 118 (dk_at dksX16_lay_3 0 rfl rfl)
theorem dX16_lay_71 : decode cX16_lay 71 = .ok (.iconst 0, 1) := dk_3 (dk_at dksX16_lay_3 3 rfl rfl)
theorem dX16_lay_72 : decode cX16_lay 72 = .ok (.istore_n 3, 1) := dk_62 (dk_at dksX16_lay_3 4 rfl rfl)
theorem dX16_lay_73 : decode cX16_lay 73 = .ok (.iload_n 3, 1) := dk_29 (dk_at dksX16_lay_3 5 rfl rfl)
theorem dX16_lay_74 : decode cX16_lay 74 = .ok (.aload_n 0, 1) := dk_42 (dk_at dksX16_lay_3 6 rfl rfl)
theorem dX16_lay_75 : decode cX16_lay 75 = .ok (.getfield 3, 3) := dk_180 0 3 (dk_at dksX16_lay_3 7 rfl rfl)
theorem dX16_lay_78 : decode cX16_lay 78 = .ok (.getfield 37, 3) := dk_180 0 37 (dk_at dksX16_lay_3 10 rfl rfl)
theorem dX16_lay_81 : decode cX16_lay 81 = .ok (.getfield 41, 3) := dk_180 0 41 (dk_at dksX16_lay_3 13 rfl rfl)
theorem dX16_lay_84 : decode cX16_lay 84 = .ok (.invokevirtual 97, 3) := dk_182 0 97 (dk_at dksX16_lay_3 16 rfl rfl)
theorem dX16_lay_87 : decode cX16_lay 87 = .ok (.if_icmp .ge 15, 3) := dk_162 0 15 (dk_at dksX16_lay_3 19 rfl rfl)
theorem dX16_lay_90 : decode cX16_lay 90 = .ok (.aload_n 0, 1) := dk_42 (dk_at dksX16_lay_3 22 rfl rfl)
theorem dX16_lay_91 : decode cX16_lay 91 = .ok (.iload_n 3, 1) := dk_29 (dk_at dksX16_lay_3 23 rfl rfl)
theorem dX16_lay_92 : decode cX16_lay 92 = .ok (.iload_n 1, 1) := dk_27 (dk_at dksX16_lay_4 0 rfl rfl)
theorem dX16_lay_93 : decode cX16_lay 93 = .ok (.invokevirtual 100, 3) := dk_182 0 100 (dk_at dksX16_lay_4 1 rfl rfl)
theorem dX16_lay_96 : decode cX16_lay 96 = .ok (.iinc 3 1, 3) := dk_132 3 1 (dk_at dksX16_lay_4 4 rfl rfl)
theorem dX16_lay_99 : decode cX16_lay 99 = .ok (.goto (-26), 3) := dk_167 255 230 (dk_at dksX16_lay_4 7 rfl rfl)
theorem dX16_lay_102 : decode cX16_lay 102 = .ok (.iconst 0, 1) := dk_3 (dk_at dksX16_lay_4 10 rfl rfl)
theorem dX16_lay_103 : decode cX16_lay 103 = .ok (.istore_n 3, 1) := dk_62 (dk_at dksX16_lay_4 11 rfl rfl)
theorem dX16_lay_104 : decode cX16_lay 104 = .ok (.iload_n 3, 1) := dk_29 (dk_at dksX16_lay_4 12 rfl rfl)
theorem dX16_lay_105 : decode cX16_lay 105 = .ok (.aload_n 0, 1) := dk_42 (dk_at dksX16_lay_4 13 rfl rfl)
theorem dX16_lay_106 : decode cX16_lay 106 = .ok (.getfield 34, 3) := dk_180 0 34 (dk_at dksX16_lay_4 14 rfl rfl)
theorem dX16_lay_109 : decode cX16_lay 109 = .ok (.if_icmp .ge 67, 3) := dk_162 0 67 (dk_at dksX16_lay_4 17 rfl rfl)
theorem dX16_lay_112 : decode cX16_lay 112 = .ok (.aload_n 0, 1) := dk_42 (dk_at dksX16_lay_4 20 rfl rfl)
theorem dX16_lay_113 : decode cX16_lay 113 = .ok (.dup, 1) := dk_89 (dk_at dksX16_lay_4 21 rfl rfl)
theorem dX16_lay_114 : decode cX16_lay 114 = .ok (.getfield 88, 3) := dk_180 0 88 (dk_at dksX16_lay_5 0 rfl rfl)
theorem dX16_lay_117 : decode cX16_lay 117 = .ok (.aload_n 0, 1) := dk_42 (dk_at dksX16_lay_5 3 rfl rfl)
theorem dX16_lay_118 : decode cX16_lay 118 = .ok (.getfield 16, 3) := dk_180 0 16 (dk_at dksX16_lay_5 4 rfl rfl)
theorem dX16_lay_121 : decode cX16_lay 121 = .ok (.aload_n 0, 1) := dk_42 (dk_at dksX16_lay_5 7 rfl rfl)
theorem dX16_lay_122 : decode cX16_lay 122 = .ok (.getfield 23, 3) := dk_180 0 23 (dk_at dksX16_lay_5 8 rfl rfl)
theorem dX16_lay_125 : decode cX16_lay 125 = .ok (.iload_n 3, 1) := dk_29 (dk_at dksX16_lay_5 11 rfl rfl)
theorem dX16_lay_126 : decode cX16_lay 126 = .ok (.iaload, 1) := dk_46 (dk_at dksX16_lay_5 12 rfl rfl)
theorem dX16_lay_127 : decode cX16_lay 127 = .ok (.laload, 1) := dk_47 (dk_at dksX16_lay_5 13 rfl rfl)
theorem dX16_lay_128 : decode cX16_lay 128 = .ok (.aload_n 0, 1) := dk_42 (dk_at dksX16_lay_5 14 rfl rfl)
theorem dX16_lay_129 : decode cX16_lay 129 = .ok (.aload_n 0, 1) := dk_42 (dk_at dksX16_lay_5 15 rfl rfl)
theorem dX16_lay_130 : decode cX16_lay 130 = .ok (.getfield 23, 3) := dk_180 0 23 (dk_at dksX16_lay_5 16 rfl rfl)
theorem dX16_lay_133 : decode cX16_lay 133 = .ok (.iload_n 3, 1) := dk_29 (dk_at dksX16_lay_5 19 rfl rfl)
theorem dX16_lay_134 : decode cX16_lay 134 = .ok (.iaload, 1) := dk_46 (dk_at dksX16_lay_5 20 rfl rfl)
theorem dX16_lay_135 : decode cX16_lay 135 = .ok (.bipush 64, 2) := dk_16 64 (dk_at dksX16_lay_5 21 rfl rfl)
theorem dX16_lay_137 : decode cX16_lay 137 = .ok (.idiv, 1) := dk_108 (dk_at dksX16_lay_5 23 rfl rfl)
theorem dX16_lay_138 : decode cX16_lay 138 = .ok (.invokevirtual 103, 3) := dk_182 0 103 (dk_at dksX16_lay_6 0 rfl rfl)
theorem dX16_lay_141 : decode cX16_lay 141 = .ok (.lmul, 1) := dk_105 (dk_at dksX16_lay_6 3 rfl rfl)
theorem dX16_lay_142 : decode cX16_lay 142 = .ok (.ladd, 1) := dk_97 (dk_at dksX16_lay_6 4 rfl rfl)
theorem dX16_lay_143 : decode cX16_lay 143 = .ok (.putfield 88, 3) := dk_181 0 88 (dk_at dksX16_lay_6 5 rfl rfl)
theorem dX16_lay_146 : decode cX16_lay 146 = .ok (.aload_n 0, 1) := dk_42 (dk_at dksX16_lay_6 8 rfl rfl)
theorem dX16_lay_147 : decode cX16_lay 147 = .ok (.aload_n 0, 1) := dk_42 (dk_at dksX16_lay_6 9 rfl rfl)
theorem dX16_lay_148 : decode cX16_lay 148 = .ok (.getfield 23, 3) := dk_180 0 23 (dk_at dksX16_lay_6 10 rfl rfl)
theorem dX16_lay_151 : decode cX16_lay 151 = .ok (.iload_n 3, 1) := dk_29 (dk_at dksX16_lay_6 13 rfl rfl)
theorem dX16_lay_152 : decode cX16_lay 152 = .ok (.iaload, 1) := dk_46 (dk_at dksX16_lay_6 14 rfl rfl)
theorem dX16_lay_153 : decode cX16_lay 153 = .ok (.bipush 64, 2) := dk_16 64 (dk_at dksX16_lay_6 15 rfl rfl)
theorem dX16_lay_155 : decode cX16_lay 155 = .ok (.irem, 1) := dk_112 (dk_at dksX16_lay_6 17 rfl rfl)
theorem dX16_lay_156 : decode cX16_lay 156 = .ok (.aload_n 0, 1) := dk_42 (dk_at dksX16_lay_6 18 rfl rfl)
theorem dX16_lay_157 : decode cX16_lay 157 = .ok (.getfield 16, 3) := dk_180 0 16 (dk_at dksX16_lay_6 19 rfl rfl)
theorem dX16_lay_160 : decode cX16_lay 160 = .ok (.aload_n 0, 1) := dk_42 (dk_at dksX16_lay_6 22 rfl rfl)
theorem dX16_lay_161 : decode cX16_lay 161 = .ok (.getfield 23, 3) := dk_180 0 23 (dk_at dksX16_lay_7 0 rfl rfl)
theorem dX16_lay_164 : decode cX16_lay 164 = .ok (.iload_n 3, 1) := dk_29 (dk_at dksX16_lay_7 3 rfl rfl)
theorem dX16_lay_165 : decode cX16_lay 165 = .ok (.iaload, 1) := dk_46 (dk_at dksX16_lay_7 4 rfl rfl)
theorem dX16_lay_166 : decode cX16_lay 166 = .ok (.laload, 1) := dk_47 (dk_at dksX16_lay_7 5 rfl rfl)
theorem dX16_lay_167 : decode cX16_lay 167 = .ok (.invokevirtual 69, 3) := dk_182 0 69 (dk_at dksX16_lay_7 6 rfl rfl)
theorem dX16_lay_170 : decode cX16_lay 170 = .ok (.iinc 3 1, 3) := dk_132 3 1 (dk_at dksX16_lay_7 9 rfl rfl)
theorem dX16_lay_173 : decode cX16_lay 173 = .ok (.goto (-69), 3) := dk_167 255 187 (dk_at dksX16_lay_7 12 rfl rfl)
theorem dX16_lay_176 : decode cX16_lay 176 = .ok (.aload_n 0, 1) := dk_42 (dk_at dksX16_lay_7 15 rfl rfl)
theorem dX16_lay_177 : decode cX16_lay 177 = .ok (.invokevirtual 77, 3) := dk_182 0 77 (dk_at dksX16_lay_7 16 rfl rfl)
theorem dX16_lay_180 : decode cX16_lay 180 = .ok (.iinc 2 1, 3) := dk_132 2 1 (dk_at dksX16_lay_7 19 rfl rfl)
theorem dX16_lay_183 : decode cX16_lay 183 = .ok (.goto (-126), 3) := dk_167 255 130 (dk_at dksX16_lay_8 0 rfl rfl)
theorem dX16_lay_186 : decode cX16_lay 186 = .ok (.aload_n 0, 1) := dk_42 (dk_at dksX16_lay_8 3 rfl rfl)
theorem dX16_lay_187 : decode cX16_lay 187 = .ok (.areturn, 1) := dk_176 (dk_at dksX16_lay_8 4 rfl rfl)
abbrev cX16_puts : ByteArray := prog_3_method_2_code
def yX16_puts : MethodName := ⟨RX16, "puts", "(IJ)V"⟩
def dkwX16_puts_2 : List UInt8 := [80, 177]
abbrev dktX16_puts_2 : List UInt8 := dkwX16_puts_2 ++ []
def dkwX16_puts_1 : List UInt8 := [180, 0, 30, 27, 79, 42, 89, 180, 0, 30, 4, 96, 181, 0, 30, 42, 180, 0, 20, 27, 92, 47, 32, 97]
abbrev dktX16_puts_1 : List UInt8 := dkwX16_puts_1 ++ dktX16_puts_2
def dkwX16_puts_0 : List UInt8 := [32, 9, 148, 154, 0, 4, 177, 42, 180, 0, 20, 27, 47, 9, 148, 154, 0, 23, 42, 180, 0, 27, 42]
abbrev dktX16_puts_0 : List UInt8 := dkwX16_puts_0 ++ dktX16_puts_1
theorem dksX16_puts_0 : cX16_puts.data.toList.drop 0 = dktX16_puts_0 := by decide +kernel
theorem dksX16_puts_1 : cX16_puts.data.toList.drop 23 = dktX16_puts_1 := dk_seg dksX16_puts_0 23 rfl rfl
theorem dksX16_puts_2 : cX16_puts.data.toList.drop 47 = dktX16_puts_2 := dk_seg dksX16_puts_1 24 rfl rfl
theorem dX16_puts_0 : decode cX16_puts 0 = .ok (.lload_n 2, 1) := dk_32 (dk_at dksX16_puts_0 0 rfl rfl)
theorem dX16_puts_1 : decode cX16_puts 1 = .ok (.lconst 0, 1) := dk_9 (dk_at dksX16_puts_0 1 rfl rfl)
theorem dX16_puts_2 : decode cX16_puts 2 = .ok (.lcmp, 1) := dk_148 (dk_at dksX16_puts_0 2 rfl rfl)
theorem dX16_puts_3 : decode cX16_puts 3 = .ok (.ifCond .ne 4, 3) := dk_154 0 4 (dk_at dksX16_puts_0 3 rfl rfl)
theorem dX16_puts_6 : decode cX16_puts 6 = .ok (.return_, 1) := dk_177 (dk_at dksX16_puts_0 6 rfl rfl)
theorem dX16_puts_7 : decode cX16_puts 7 = .ok (.aload_n 0, 1) := dk_42 (dk_at dksX16_puts_0 7 rfl rfl)
theorem dX16_puts_8 : decode cX16_puts 8 = .ok (.getfield 20, 3) := dk_180 0 20 (dk_at dksX16_puts_0 8 rfl rfl)
theorem dX16_puts_11 : decode cX16_puts 11 = .ok (.iload_n 1, 1) := dk_27 (dk_at dksX16_puts_0 11 rfl rfl)
theorem dX16_puts_12 : decode cX16_puts 12 = .ok (.laload, 1) := dk_47 (dk_at dksX16_puts_0 12 rfl rfl)
theorem dX16_puts_13 : decode cX16_puts 13 = .ok (.lconst 0, 1) := dk_9 (dk_at dksX16_puts_0 13 rfl rfl)
theorem dX16_puts_14 : decode cX16_puts 14 = .ok (.lcmp, 1) := dk_148 (dk_at dksX16_puts_0 14 rfl rfl)
theorem dX16_puts_15 : decode cX16_puts 15 = .ok (.ifCond .ne 23, 3) := dk_154 0 23 (dk_at dksX16_puts_0 15 rfl rfl)
theorem dX16_puts_18 : decode cX16_puts 18 = .ok (.aload_n 0, 1) := dk_42 (dk_at dksX16_puts_0 18 rfl rfl)
theorem dX16_puts_19 : decode cX16_puts 19 = .ok (.getfield 27, 3) := dk_180 0 27 (dk_at dksX16_puts_0 19 rfl rfl)
theorem dX16_puts_22 : decode cX16_puts 22 = .ok (.aload_n 0, 1) := dk_42 (dk_at dksX16_puts_0 22 rfl rfl)
theorem dX16_puts_23 : decode cX16_puts 23 = .ok (.getfield 30, 3) := dk_180 0 30 (dk_at dksX16_puts_1 0 rfl rfl)
theorem dX16_puts_26 : decode cX16_puts 26 = .ok (.iload_n 1, 1) := dk_27 (dk_at dksX16_puts_1 3 rfl rfl)
theorem dX16_puts_27 : decode cX16_puts 27 = .ok (.iastore, 1) := dk_79 (dk_at dksX16_puts_1 4 rfl rfl)
theorem dX16_puts_28 : decode cX16_puts 28 = .ok (.aload_n 0, 1) := dk_42 (dk_at dksX16_puts_1 5 rfl rfl)
theorem dX16_puts_29 : decode cX16_puts 29 = .ok (.dup, 1) := dk_89 (dk_at dksX16_puts_1 6 rfl rfl)
theorem dX16_puts_30 : decode cX16_puts 30 = .ok (.getfield 30, 3) := dk_180 0 30 (dk_at dksX16_puts_1 7 rfl rfl)
theorem dX16_puts_33 : decode cX16_puts 33 = .ok (.iconst 1, 1) := dk_4 (dk_at dksX16_puts_1 10 rfl rfl)
theorem dX16_puts_34 : decode cX16_puts 34 = .ok (.iadd, 1) := dk_96 (dk_at dksX16_puts_1 11 rfl rfl)
theorem dX16_puts_35 : decode cX16_puts 35 = .ok (.putfield 30, 3) := dk_181 0 30 (dk_at dksX16_puts_1 12 rfl rfl)
theorem dX16_puts_38 : decode cX16_puts 38 = .ok (.aload_n 0, 1) := dk_42 (dk_at dksX16_puts_1 15 rfl rfl)
theorem dX16_puts_39 : decode cX16_puts 39 = .ok (.getfield 20, 3) := dk_180 0 20 (dk_at dksX16_puts_1 16 rfl rfl)
theorem dX16_puts_42 : decode cX16_puts 42 = .ok (.iload_n 1, 1) := dk_27 (dk_at dksX16_puts_1 19 rfl rfl)
theorem dX16_puts_43 : decode cX16_puts 43 = .ok (.dup2, 1) := dk_92 (dk_at dksX16_puts_1 20 rfl rfl)
theorem dX16_puts_44 : decode cX16_puts 44 = .ok (.laload, 1) := dk_47 (dk_at dksX16_puts_1 21 rfl rfl)
theorem dX16_puts_45 : decode cX16_puts 45 = .ok (.lload_n 2, 1) := dk_32 (dk_at dksX16_puts_1 22 rfl rfl)
theorem dX16_puts_46 : decode cX16_puts 46 = .ok (.ladd, 1) := dk_97 (dk_at dksX16_puts_1 23 rfl rfl)
theorem dX16_puts_47 : decode cX16_puts 47 = .ok (.lastore, 1) := dk_80 (dk_at dksX16_puts_2 0 rfl rfl)
theorem dX16_puts_48 : decode cX16_puts 48 = .ok (.return_, 1) := dk_177 (dk_at dksX16_puts_2 1 rfl rfl)
abbrev cX16_settles : ByteArray := prog_3_method_3_code
def yX16_settles : MethodName := ⟨RX16, "settles", "()V"⟩
def dkwX16_settles_4 : List UInt8 := [181, 0, 27, 42, 42, 180, 0, 30, 181, 0, 34, 42, 3, 181, 0, 30, 177]
abbrev dktX16_settles_4 : List UInt8 := dkwX16_settles_4 ++ []
def dkwX16_settles_3 : List UInt8 := [9, 80, 132, 1, 1, 167, 255, 211, 42, 180, 0, 23, 76, 42, 42, 180, 0, 27, 181, 0, 23, 42, 43]
abbrev dktX16_settles_3 : List UInt8 := dkwX16_settles_3 ++ dktX16_settles_4
def dkwX16_settles_2 : List UInt8 := [27, 46, 42, 180, 0, 20, 42, 180, 0, 27, 27, 46, 47, 80, 42, 180, 0, 20, 42, 180, 0, 27, 27, 46]
abbrev dktX16_settles_2 : List UInt8 := dkwX16_settles_2 ++ dktX16_settles_3
def dkwX16_settles_1 : List UInt8 := [132, 1, 1, 167, 255, 233, 3, 60, 27, 42, 180, 0, 30, 162, 0, 43, 42, 180, 0, 16, 42, 180, 0, 27]
abbrev dktX16_settles_1 : List UInt8 := dkwX16_settles_1 ++ dktX16_settles_2
def dkwX16_settles_0 : List UInt8 := [3, 60, 27, 42, 180, 0, 34, 162, 0, 21, 42, 180, 0, 16, 42, 180, 0, 23, 27, 46, 9, 80]
abbrev dktX16_settles_0 : List UInt8 := dkwX16_settles_0 ++ dktX16_settles_1
theorem dksX16_settles_0 : cX16_settles.data.toList.drop 0 = dktX16_settles_0 := by decide +kernel
theorem dksX16_settles_1 : cX16_settles.data.toList.drop 22 = dktX16_settles_1 := dk_seg dksX16_settles_0 22 rfl rfl
theorem dksX16_settles_2 : cX16_settles.data.toList.drop 46 = dktX16_settles_2 := dk_seg dksX16_settles_1 24 rfl rfl
theorem dksX16_settles_3 : cX16_settles.data.toList.drop 70 = dktX16_settles_3 := dk_seg dksX16_settles_2 24 rfl rfl
theorem dksX16_settles_4 : cX16_settles.data.toList.drop 93 = dktX16_settles_4 := dk_seg dksX16_settles_3 23 rfl rfl
theorem dX16_settles_0 : decode cX16_settles 0 = .ok (.iconst 0, 1) := dk_3 (dk_at dksX16_settles_0 0 rfl rfl)
theorem dX16_settles_1 : decode cX16_settles 1 = .ok (.istore_n 1, 1) := dk_60 (dk_at dksX16_settles_0 1 rfl rfl)
theorem dX16_settles_2 : decode cX16_settles 2 = .ok (.iload_n 1, 1) := dk_27 (dk_at dksX16_settles_0 2 rfl rfl)
theorem dX16_settles_3 : decode cX16_settles 3 = .ok (.aload_n 0, 1) := dk_42 (dk_at dksX16_settles_0 3 rfl rfl)
theorem dX16_settles_4 : decode cX16_settles 4 = .ok (.getfield 34, 3) := dk_180 0 34 (dk_at dksX16_settles_0 4 rfl rfl)
theorem dX16_settles_7 : decode cX16_settles 7 = .ok (.if_icmp .ge 21, 3) := dk_162 0 21 (dk_at dksX16_settles_0 7 rfl rfl)
theorem dX16_settles_10 : decode cX16_settles 10 = .ok (.aload_n 0, 1) := dk_42 (dk_at dksX16_settles_0 10 rfl rfl)
theorem dX16_settles_11 : decode cX16_settles 11 = .ok (.getfield 16, 3) := dk_180 0 16 (dk_at dksX16_settles_0 11 rfl rfl)
theorem dX16_settles_14 : decode cX16_settles 14 = .ok (.aload_n 0, 1) := dk_42 (dk_at dksX16_settles_0 14 rfl rfl)
theorem dX16_settles_15 : decode cX16_settles 15 = .ok (.getfield 23, 3) := dk_180 0 23 (dk_at dksX16_settles_0 15 rfl rfl)
theorem dX16_settles_18 : decode cX16_settles 18 = .ok (.iload_n 1, 1) := dk_27 (dk_at dksX16_settles_0 18 rfl rfl)
theorem dX16_settles_19 : decode cX16_settles 19 = .ok (.iaload, 1) := dk_46 (dk_at dksX16_settles_0 19 rfl rfl)
theorem dX16_settles_20 : decode cX16_settles 20 = .ok (.lconst 0, 1) := dk_9 (dk_at dksX16_settles_0 20 rfl rfl)
theorem dX16_settles_21 : decode cX16_settles 21 = .ok (.lastore, 1) := dk_80 (dk_at dksX16_settles_0 21 rfl rfl)
theorem dX16_settles_22 : decode cX16_settles 22 = .ok (.iinc 1 1, 3) := dk_132 1 1 (dk_at dksX16_settles_1 0 rfl rfl)
theorem dX16_settles_25 : decode cX16_settles 25 = .ok (.goto (-23), 3) := dk_167 255 233 (dk_at dksX16_settles_1 3 rfl rfl)
theorem dX16_settles_28 : decode cX16_settles 28 = .ok (.iconst 0, 1) := dk_3 (dk_at dksX16_settles_1 6 rfl rfl)
theorem dX16_settles_29 : decode cX16_settles 29 = .ok (.istore_n 1, 1) := dk_60 (dk_at dksX16_settles_1 7 rfl rfl)
theorem dX16_settles_30 : decode cX16_settles 30 = .ok (.iload_n 1, 1) := dk_27 (dk_at dksX16_settles_1 8 rfl rfl)
theorem dX16_settles_31 : decode cX16_settles 31 = .ok (.aload_n 0, 1) := dk_42 (dk_at dksX16_settles_1 9 rfl rfl)
theorem dX16_settles_32 : decode cX16_settles 32 = .ok (.getfield 30, 3) := dk_180 0 30 (dk_at dksX16_settles_1 10 rfl rfl)
theorem dX16_settles_35 : decode cX16_settles 35 = .ok (.if_icmp .ge 43, 3) := dk_162 0 43 (dk_at dksX16_settles_1 13 rfl rfl)
theorem dX16_settles_38 : decode cX16_settles 38 = .ok (.aload_n 0, 1) := dk_42 (dk_at dksX16_settles_1 16 rfl rfl)
theorem dX16_settles_39 : decode cX16_settles 39 = .ok (.getfield 16, 3) := dk_180 0 16 (dk_at dksX16_settles_1 17 rfl rfl)
theorem dX16_settles_42 : decode cX16_settles 42 = .ok (.aload_n 0, 1) := dk_42 (dk_at dksX16_settles_1 20 rfl rfl)
theorem dX16_settles_43 : decode cX16_settles 43 = .ok (.getfield 27, 3) := dk_180 0 27 (dk_at dksX16_settles_1 21 rfl rfl)
theorem dX16_settles_46 : decode cX16_settles 46 = .ok (.iload_n 1, 1) := dk_27 (dk_at dksX16_settles_2 0 rfl rfl)
theorem dX16_settles_47 : decode cX16_settles 47 = .ok (.iaload, 1) := dk_46 (dk_at dksX16_settles_2 1 rfl rfl)
theorem dX16_settles_48 : decode cX16_settles 48 = .ok (.aload_n 0, 1) := dk_42 (dk_at dksX16_settles_2 2 rfl rfl)
theorem dX16_settles_49 : decode cX16_settles 49 = .ok (.getfield 20, 3) := dk_180 0 20 (dk_at dksX16_settles_2 3 rfl rfl)
theorem dX16_settles_52 : decode cX16_settles 52 = .ok (.aload_n 0, 1) := dk_42 (dk_at dksX16_settles_2 6 rfl rfl)
theorem dX16_settles_53 : decode cX16_settles 53 = .ok (.getfield 27, 3) := dk_180 0 27 (dk_at dksX16_settles_2 7 rfl rfl)
theorem dX16_settles_56 : decode cX16_settles 56 = .ok (.iload_n 1, 1) := dk_27 (dk_at dksX16_settles_2 10 rfl rfl)
theorem dX16_settles_57 : decode cX16_settles 57 = .ok (.iaload, 1) := dk_46 (dk_at dksX16_settles_2 11 rfl rfl)
theorem dX16_settles_58 : decode cX16_settles 58 = .ok (.laload, 1) := dk_47 (dk_at dksX16_settles_2 12 rfl rfl)
theorem dX16_settles_59 : decode cX16_settles 59 = .ok (.lastore, 1) := dk_80 (dk_at dksX16_settles_2 13 rfl rfl)
theorem dX16_settles_60 : decode cX16_settles 60 = .ok (.aload_n 0, 1) := dk_42 (dk_at dksX16_settles_2 14 rfl rfl)
theorem dX16_settles_61 : decode cX16_settles 61 = .ok (.getfield 20, 3) := dk_180 0 20 (dk_at dksX16_settles_2 15 rfl rfl)
theorem dX16_settles_64 : decode cX16_settles 64 = .ok (.aload_n 0, 1) := dk_42 (dk_at dksX16_settles_2 18 rfl rfl)
theorem dX16_settles_65 : decode cX16_settles 65 = .ok (.getfield 27, 3) := dk_180 0 27 (dk_at dksX16_settles_2 19 rfl rfl)
theorem dX16_settles_68 : decode cX16_settles 68 = .ok (.iload_n 1, 1) := dk_27 (dk_at dksX16_settles_2 22 rfl rfl)
theorem dX16_settles_69 : decode cX16_settles 69 = .ok (.iaload, 1) := dk_46 (dk_at dksX16_settles_2 23 rfl rfl)
theorem dX16_settles_70 : decode cX16_settles 70 = .ok (.lconst 0, 1) := dk_9 (dk_at dksX16_settles_3 0 rfl rfl)
theorem dX16_settles_71 : decode cX16_settles 71 = .ok (.lastore, 1) := dk_80 (dk_at dksX16_settles_3 1 rfl rfl)
theorem dX16_settles_72 : decode cX16_settles 72 = .ok (.iinc 1 1, 3) := dk_132 1 1 (dk_at dksX16_settles_3 2 rfl rfl)
theorem dX16_settles_75 : decode cX16_settles 75 = .ok (.goto (-45), 3) := dk_167 255 211 (dk_at dksX16_settles_3 5 rfl rfl)
theorem dX16_settles_78 : decode cX16_settles 78 = .ok (.aload_n 0, 1) := dk_42 (dk_at dksX16_settles_3 8 rfl rfl)
theorem dX16_settles_79 : decode cX16_settles 79 = .ok (.getfield 23, 3) := dk_180 0 23 (dk_at dksX16_settles_3 9 rfl rfl)
theorem dX16_settles_82 : decode cX16_settles 82 = .ok (.astore_n 1, 1) := dk_76 (dk_at dksX16_settles_3 12 rfl rfl)
theorem dX16_settles_83 : decode cX16_settles 83 = .ok (.aload_n 0, 1) := dk_42 (dk_at dksX16_settles_3 13 rfl rfl)
theorem dX16_settles_84 : decode cX16_settles 84 = .ok (.aload_n 0, 1) := dk_42 (dk_at dksX16_settles_3 14 rfl rfl)
theorem dX16_settles_85 : decode cX16_settles 85 = .ok (.getfield 27, 3) := dk_180 0 27 (dk_at dksX16_settles_3 15 rfl rfl)
theorem dX16_settles_88 : decode cX16_settles 88 = .ok (.putfield 23, 3) := dk_181 0 23 (dk_at dksX16_settles_3 18 rfl rfl)
theorem dX16_settles_91 : decode cX16_settles 91 = .ok (.aload_n 0, 1) := dk_42 (dk_at dksX16_settles_3 21 rfl rfl)
theorem dX16_settles_92 : decode cX16_settles 92 = .ok (.aload_n 1, 1) := dk_43 (dk_at dksX16_settles_3 22 rfl rfl)
theorem dX16_settles_93 : decode cX16_settles 93 = .ok (.putfield 27, 3) := dk_181 0 27 (dk_at dksX16_settles_4 0 rfl rfl)
theorem dX16_settles_96 : decode cX16_settles 96 = .ok (.aload_n 0, 1) := dk_42 (dk_at dksX16_settles_4 3 rfl rfl)
theorem dX16_settles_97 : decode cX16_settles 97 = .ok (.aload_n 0, 1) := dk_42 (dk_at dksX16_settles_4 4 rfl rfl)
theorem dX16_settles_98 : decode cX16_settles 98 = .ok (.getfield 30, 3) := dk_180 0 30 (dk_at dksX16_settles_4 5 rfl rfl)
theorem dX16_settles_101 : decode cX16_settles 101 = .ok (.putfield 34, 3) := dk_181 0 34 (dk_at dksX16_settles_4 8 rfl rfl)
theorem dX16_settles_104 : decode cX16_settles 104 = .ok (.aload_n 0, 1) := dk_42 (dk_at dksX16_settles_4 11 rfl rfl)
theorem dX16_settles_105 : decode cX16_settles 105 = .ok (.iconst 0, 1) := dk_3 (dk_at dksX16_settles_4 12 rfl rfl)
theorem dX16_settles_106 : decode cX16_settles 106 = .ok (.putfield 30, 3) := dk_181 0 30 (dk_at dksX16_settles_4 13 rfl rfl)
theorem dX16_settles_109 : decode cX16_settles 109 = .ok (.return_, 1) := dk_177 (dk_at dksX16_settles_4 16 rfl rfl)
abbrev cX16_comes : ByteArray := prog_3_method_4_code
def yX16_comes : MethodName := ⟨RX16, "comes", "(II)V"⟩
def dkwX16_comes_9 : List UInt8 := [167, 255, 81, 42, 182, 0, 77, 177]
abbrev dktX16_comes_9 : List UInt8 := dkwX16_comes_9 ++ []
def dkwX16_comes_8 : List UInt8 := [96, 22, 15, 182, 0, 69, 42, 21, 14, 21, 8, 96, 22, 11, 22, 15, 101, 182, 0, 69, 132, 5, 1]
abbrev dktX16_comes_8 : List UInt8 := dkwX16_comes_8 ++ dktX16_comes_9
def dkwX16_comes_7 : List UInt8 := [160, 0, 12, 22, 11, 28, 184, 0, 65, 167, 0, 4, 9, 55, 15, 42, 21, 14, 21, 8, 4, 27, 120, 128]
abbrev dktX16_comes_7 : List UInt8 := dkwX16_comes_7 ++ dktX16_comes_8
def dkwX16_comes_6 : List UInt8 := [160, 0, 8, 21, 7, 167, 0, 10, 21, 7, 4, 21, 13, 120, 128, 104, 54, 14, 21, 13, 21, 4]
abbrev dktX16_comes_6 : List UInt8 := dkwX16_comes_6 ++ dktX16_comes_7
def dkwX16_comes_5 : List UInt8 := [167, 0, 89, 45, 42, 180, 0, 3, 180, 0, 37, 21, 7, 182, 0, 73, 54, 13, 16, 64, 21, 13, 2]
abbrev dktX16_comes_5 : List UInt8 := dkwX16_comes_5 ++ dktX16_comes_6
def dkwX16_comes_4 : List UInt8 := [184, 0, 65, 55, 11, 42, 21, 6, 22, 9, 22, 11, 101, 182, 0, 69, 22, 11, 9, 148, 154, 0, 6]
abbrev dktX16_comes_4 : List UInt8 := dkwX16_comes_4 ++ dktX16_comes_5
def dkwX16_comes_3 : List UInt8 := [21, 6, 47, 55, 9, 21, 8, 27, 184, 0, 58, 153, 0, 7, 9, 167, 0, 12, 22, 9, 45, 180, 0, 62]
abbrev dktX16_comes_3 : List UInt8 := dkwX16_comes_3 ++ dktX16_comes_4
def dkwX16_comes_2 : List UInt8 := [21, 5, 46, 54, 6, 21, 6, 16, 64, 108, 54, 7, 21, 6, 16, 64, 112, 54, 8, 42, 180, 0, 16]
abbrev dktX16_comes_2 : List UInt8 := dkwX16_comes_2 ++ dktX16_comes_3
def dkwX16_comes_1 : List UInt8 := [180, 0, 37, 182, 0, 55, 54, 4, 3, 54, 5, 21, 5, 42, 180, 0, 34, 162, 0, 172, 42, 180, 0, 23]
abbrev dktX16_comes_1 : List UInt8 := dkwX16_comes_1 ++ dktX16_comes_2
def dkwX16_comes_0 : List UInt8 := [42, 180, 0, 3, 180, 0, 37, 180, 0, 41, 27, 182, 0, 47, 192, 0, 53, 78, 42, 180, 0, 3]
abbrev dktX16_comes_0 : List UInt8 := dkwX16_comes_0 ++ dktX16_comes_1
theorem dksX16_comes_0 : cX16_comes.data.toList.drop 0 = dktX16_comes_0 := by decide +kernel
theorem dksX16_comes_1 : cX16_comes.data.toList.drop 22 = dktX16_comes_1 := dk_seg dksX16_comes_0 22 rfl rfl
theorem dksX16_comes_2 : cX16_comes.data.toList.drop 46 = dktX16_comes_2 := dk_seg dksX16_comes_1 24 rfl rfl
theorem dksX16_comes_3 : cX16_comes.data.toList.drop 69 = dktX16_comes_3 := dk_seg dksX16_comes_2 23 rfl rfl
theorem dksX16_comes_4 : cX16_comes.data.toList.drop 93 = dktX16_comes_4 := dk_seg dksX16_comes_3 24 rfl rfl
theorem dksX16_comes_5 : cX16_comes.data.toList.drop 116 = dktX16_comes_5 := dk_seg dksX16_comes_4 23 rfl rfl
theorem dksX16_comes_6 : cX16_comes.data.toList.drop 139 = dktX16_comes_6 := dk_seg dksX16_comes_5 23 rfl rfl
theorem dksX16_comes_7 : cX16_comes.data.toList.drop 161 = dktX16_comes_7 := dk_seg dksX16_comes_6 22 rfl rfl
theorem dksX16_comes_8 : cX16_comes.data.toList.drop 185 = dktX16_comes_8 := dk_seg dksX16_comes_7 24 rfl rfl
theorem dksX16_comes_9 : cX16_comes.data.toList.drop 208 = dktX16_comes_9 := dk_seg dksX16_comes_8 23 rfl rfl
theorem dX16_comes_0 : decode cX16_comes 0 = .ok (.aload_n 0, 1) := dk_42 (dk_at dksX16_comes_0 0 rfl rfl)
theorem dX16_comes_1 : decode cX16_comes 1 = .ok (.getfield 3, 3) := dk_180 0 3 (dk_at dksX16_comes_0 1 rfl rfl)
theorem dX16_comes_4 : decode cX16_comes 4 = .ok (.getfield 37, 3) := dk_180 0 37 (dk_at dksX16_comes_0 4 rfl rfl)
theorem dX16_comes_7 : decode cX16_comes 7 = .ok (.getfield 41, 3) := dk_180 0 41 (dk_at dksX16_comes_0 7 rfl rfl)
theorem dX16_comes_10 : decode cX16_comes 10 = .ok (.iload_n 1, 1) := dk_27 (dk_at dksX16_comes_0 10 rfl rfl)
theorem dX16_comes_11 : decode cX16_comes 11 = .ok (.invokevirtual 47, 3) := dk_182 0 47 (dk_at dksX16_comes_0 11 rfl rfl)
theorem dX16_comes_14 : decode cX16_comes 14 = .ok (.checkcast 53, 3) := dk_192 0 53 (dk_at dksX16_comes_0 14 rfl rfl)
theorem dX16_comes_17 : decode cX16_comes 17 = .ok (.astore_n 3, 1) := dk_78 (dk_at dksX16_comes_0 17 rfl rfl)
theorem dX16_comes_18 : decode cX16_comes 18 = .ok (.aload_n 0, 1) := dk_42 (dk_at dksX16_comes_0 18 rfl rfl)
theorem dX16_comes_19 : decode cX16_comes 19 = .ok (.getfield 3, 3) := dk_180 0 3 (dk_at dksX16_comes_0 19 rfl rfl)
theorem dX16_comes_22 : decode cX16_comes 22 = .ok (.getfield 37, 3) := dk_180 0 37 (dk_at dksX16_comes_1 0 rfl rfl)
theorem dX16_comes_25 : decode cX16_comes 25 = .ok (.invokevirtual 55, 3) := dk_182 0 55 (dk_at dksX16_comes_1 3 rfl rfl)
theorem dX16_comes_28 : decode cX16_comes 28 = .ok (.istore 4, 2) := dk_54 4 (dk_at dksX16_comes_1 6 rfl rfl)
theorem dX16_comes_30 : decode cX16_comes 30 = .ok (.iconst 0, 1) := dk_3 (dk_at dksX16_comes_1 8 rfl rfl)
theorem dX16_comes_31 : decode cX16_comes 31 = .ok (.istore 5, 2) := dk_54 5 (dk_at dksX16_comes_1 9 rfl rfl)
theorem dX16_comes_33 : decode cX16_comes 33 = .ok (.iload 5, 2) := dk_21 5 (dk_at dksX16_comes_1 11 rfl rfl)
theorem dX16_comes_35 : decode cX16_comes 35 = .ok (.aload_n 0, 1) := dk_42 (dk_at dksX16_comes_1 13 rfl rfl)
theorem dX16_comes_36 : decode cX16_comes 36 = .ok (.getfield 34, 3) := dk_180 0 34 (dk_at dksX16_comes_1 14 rfl rfl)
theorem dX16_comes_39 : decode cX16_comes 39 = .ok (.if_icmp .ge 172, 3) := dk_162 0 172 (dk_at dksX16_comes_1 17 rfl rfl)
theorem dX16_comes_42 : decode cX16_comes 42 = .ok (.aload_n 0, 1) := dk_42 (dk_at dksX16_comes_1 20 rfl rfl)
theorem dX16_comes_43 : decode cX16_comes 43 = .ok (.getfield 23, 3) := dk_180 0 23 (dk_at dksX16_comes_1 21 rfl rfl)
theorem dX16_comes_46 : decode cX16_comes 46 = .ok (.iload 5, 2) := dk_21 5 (dk_at dksX16_comes_2 0 rfl rfl)
theorem dX16_comes_48 : decode cX16_comes 48 = .ok (.iaload, 1) := dk_46 (dk_at dksX16_comes_2 2 rfl rfl)
theorem dX16_comes_49 : decode cX16_comes 49 = .ok (.istore 6, 2) := dk_54 6 (dk_at dksX16_comes_2 3 rfl rfl)
theorem dX16_comes_51 : decode cX16_comes 51 = .ok (.iload 6, 2) := dk_21 6 (dk_at dksX16_comes_2 5 rfl rfl)
theorem dX16_comes_53 : decode cX16_comes 53 = .ok (.bipush 64, 2) := dk_16 64 (dk_at dksX16_comes_2 7 rfl rfl)
theorem dX16_comes_55 : decode cX16_comes 55 = .ok (.idiv, 1) := dk_108 (dk_at dksX16_comes_2 9 rfl rfl)
theorem dX16_comes_56 : decode cX16_comes 56 = .ok (.istore 7, 2) := dk_54 7 (dk_at dksX16_comes_2 10 rfl rfl)
theorem dX16_comes_58 : decode cX16_comes 58 = .ok (.iload 6, 2) := dk_21 6 (dk_at dksX16_comes_2 12 rfl rfl)
theorem dX16_comes_60 : decode cX16_comes 60 = .ok (.bipush 64, 2) := dk_16 64 (dk_at dksX16_comes_2 14 rfl rfl)
theorem dX16_comes_62 : decode cX16_comes 62 = .ok (.irem, 1) := dk_112 (dk_at dksX16_comes_2 16 rfl rfl)
theorem dX16_comes_63 : decode cX16_comes 63 = .ok (.istore 8, 2) := dk_54 8 (dk_at dksX16_comes_2 17 rfl rfl)
theorem dX16_comes_65 : decode cX16_comes 65 = .ok (.aload_n 0, 1) := dk_42 (dk_at dksX16_comes_2 19 rfl rfl)
theorem dX16_comes_66 : decode cX16_comes 66 = .ok (.getfield 16, 3) := dk_180 0 16 (dk_at dksX16_comes_2 20 rfl rfl)
theorem dX16_comes_69 : decode cX16_comes 69 = .ok (.iload 6, 2) := dk_21 6 (dk_at dksX16_comes_3 0 rfl rfl)
theorem dX16_comes_71 : decode cX16_comes 71 = .ok (.laload, 1) := dk_47 (dk_at dksX16_comes_3 2 rfl rfl)
theorem dX16_comes_72 : decode cX16_comes 72 = .ok (.lstore 9, 2) := dk_55 9 (dk_at dksX16_comes_3 3 rfl rfl)
theorem dX16_comes_74 : decode cX16_comes 74 = .ok (.iload 8, 2) := dk_21 8 (dk_at dksX16_comes_3 5 rfl rfl)
theorem dX16_comes_76 : decode cX16_comes 76 = .ok (.iload_n 1, 1) := dk_27 (dk_at dksX16_comes_3 7 rfl rfl)
theorem dX16_comes_77 : decode cX16_comes 77 = .ok (.invokestatic 58, 3) := dk_184 0 58 (dk_at dksX16_comes_3 8 rfl rfl)
theorem dX16_comes_80 : decode cX16_comes 80 = .ok (.ifCond .eq 7, 3) := dk_153 0 7 (dk_at dksX16_comes_3 11 rfl rfl)
theorem dX16_comes_83 : decode cX16_comes 83 = .ok (.lconst 0, 1) := dk_9 (dk_at dksX16_comes_3 14 rfl rfl)
theorem dX16_comes_84 : decode cX16_comes 84 = .ok (.goto 12, 3) := dk_167 0 12 (dk_at dksX16_comes_3 15 rfl rfl)
theorem dX16_comes_87 : decode cX16_comes 87 = .ok (.lload 9, 2) := dk_22 9 (dk_at dksX16_comes_3 18 rfl rfl)
theorem dX16_comes_89 : decode cX16_comes 89 = .ok (.aload_n 3, 1) := dk_45 (dk_at dksX16_comes_3 20 rfl rfl)
theorem dX16_comes_90 : decode cX16_comes 90 = .ok (.getfield 62, 3) := dk_180 0 62 (dk_at dksX16_comes_3 21 rfl rfl)
theorem dX16_comes_93 : decode cX16_comes 93 = .ok (.invokestatic 65, 3) := dk_184 0 65 (dk_at dksX16_comes_4 0 rfl rfl)
theorem dX16_comes_96 : decode cX16_comes 96 = .ok (.lstore 11, 2) := dk_55 11 (dk_at dksX16_comes_4 3 rfl rfl)
theorem dX16_comes_98 : decode cX16_comes 98 = .ok (.aload_n 0, 1) := dk_42 (dk_at dksX16_comes_4 5 rfl rfl)
theorem dX16_comes_99 : decode cX16_comes 99 = .ok (.iload 6, 2) := dk_21 6 (dk_at dksX16_comes_4 6 rfl rfl)
theorem dX16_comes_101 : decode cX16_comes 101 = .ok (.lload 9, 2) := dk_22 9 (dk_at dksX16_comes_4 8 rfl rfl)
theorem dX16_comes_103 : decode cX16_comes 103 = .ok (.lload 11, 2) := dk_22 11 (dk_at dksX16_comes_4 10 rfl rfl)
theorem dX16_comes_105 : decode cX16_comes 105 = .ok (.lsub, 1) := dk_101 (dk_at dksX16_comes_4 12 rfl rfl)
theorem dX16_comes_106 : decode cX16_comes 106 = .ok (.invokevirtual 69, 3) := dk_182 0 69 (dk_at dksX16_comes_4 13 rfl rfl)
theorem dX16_comes_109 : decode cX16_comes 109 = .ok (.lload 11, 2) := dk_22 11 (dk_at dksX16_comes_4 16 rfl rfl)
theorem dX16_comes_111 : decode cX16_comes 111 = .ok (.lconst 0, 1) := dk_9 (dk_at dksX16_comes_4 18 rfl rfl)
theorem dX16_comes_112 : decode cX16_comes 112 = .ok (.lcmp, 1) := dk_148 (dk_at dksX16_comes_4 19 rfl rfl)
theorem dX16_comes_113 : decode cX16_comes 113 = .ok (.ifCond .ne 6, 3) := dk_154 0 6 (dk_at dksX16_comes_4 20 rfl rfl)
theorem dX16_comes_116 : decode cX16_comes 116 = .ok (.goto 89, 3) := dk_167 0 89 (dk_at dksX16_comes_5 0 rfl rfl)
theorem dX16_comes_119 : decode cX16_comes 119 = .ok (.aload_n 3, 1) := dk_45 (dk_at dksX16_comes_5 3 rfl rfl)
theorem dX16_comes_120 : decode cX16_comes 120 = .ok (.aload_n 0, 1) := dk_42 (dk_at dksX16_comes_5 4 rfl rfl)
theorem dX16_comes_121 : decode cX16_comes 121 = .ok (.getfield 3, 3) := dk_180 0 3 (dk_at dksX16_comes_5 5 rfl rfl)
theorem dX16_comes_124 : decode cX16_comes 124 = .ok (.getfield 37, 3) := dk_180 0 37 (dk_at dksX16_comes_5 8 rfl rfl)
theorem dX16_comes_127 : decode cX16_comes 127 = .ok (.iload 7, 2) := dk_21 7 (dk_at dksX16_comes_5 11 rfl rfl)
theorem dX16_comes_129 : decode cX16_comes 129 = .ok (.invokevirtual 73, 3) := dk_182 0 73 (dk_at dksX16_comes_5 13 rfl rfl)
theorem dX16_comes_132 : decode cX16_comes 132 = .ok (.istore 13, 2) := dk_54 13 (dk_at dksX16_comes_5 16 rfl rfl)
theorem dX16_comes_134 : decode cX16_comes 134 = .ok (.bipush 64, 2) := dk_16 64 (dk_at dksX16_comes_5 18 rfl rfl)
theorem dX16_comes_136 : decode cX16_comes 136 = .ok (.iload 13, 2) := dk_21 13 (dk_at dksX16_comes_5 20 rfl rfl)
theorem dX16_comes_138 : decode cX16_comes 138 = .ok (.iconst (-1), 1) := dk_2 (dk_at dksX16_comes_5 22 rfl rfl)
theorem dX16_comes_139 : decode cX16_comes 139 = .ok (.if_icmp .ne 8, 3) := dk_160 0 8 (dk_at dksX16_comes_6 0 rfl rfl)
theorem dX16_comes_142 : decode cX16_comes 142 = .ok (.iload 7, 2) := dk_21 7 (dk_at dksX16_comes_6 3 rfl rfl)
theorem dX16_comes_144 : decode cX16_comes 144 = .ok (.goto 10, 3) := dk_167 0 10 (dk_at dksX16_comes_6 5 rfl rfl)
theorem dX16_comes_147 : decode cX16_comes 147 = .ok (.iload 7, 2) := dk_21 7 (dk_at dksX16_comes_6 8 rfl rfl)
theorem dX16_comes_149 : decode cX16_comes 149 = .ok (.iconst 1, 1) := dk_4 (dk_at dksX16_comes_6 10 rfl rfl)
theorem dX16_comes_150 : decode cX16_comes 150 = .ok (.iload 13, 2) := dk_21 13 (dk_at dksX16_comes_6 11 rfl rfl)
theorem dX16_comes_152 : decode cX16_comes 152 = .ok (.ishl, 1) := dk_120 (dk_at dksX16_comes_6 13 rfl rfl)
theorem dX16_comes_153 : decode cX16_comes 153 = .ok (.ior, 1) := dk_128 (dk_at dksX16_comes_6 14 rfl rfl)
theorem dX16_comes_154 : decode cX16_comes 154 = .ok (.imul, 1) := dk_104 (dk_at dksX16_comes_6 15 rfl rfl)
theorem dX16_comes_155 : decode cX16_comes 155 = .ok (.istore 14, 2) := dk_54 14 (dk_at dksX16_comes_6 16 rfl rfl)
theorem dX16_comes_157 : decode cX16_comes 157 = .ok (.iload 13, 2) := dk_21 13 (dk_at dksX16_comes_6 18 rfl rfl)
theorem dX16_comes_159 : decode cX16_comes 159 = .ok (.iload 4, 2) := dk_21 4 (dk_at dksX16_comes_6 20 rfl rfl)
theorem dX16_comes_161 : decode cX16_comes 161 = .ok (.if_icmp .ne 12, 3) := dk_160 0 12 (dk_at dksX16_comes_7 0 rfl rfl)
theorem dX16_comes_164 : decode cX16_comes 164 = .ok (.lload 11, 2) := dk_22 11 (dk_at dksX16_comes_7 3 rfl rfl)
theorem dX16_comes_166 : decode cX16_comes 166 = .ok (.iload_n 2, 1) := dk_28 (dk_at dksX16_comes_7 5 rfl rfl)
theorem dX16_comes_167 : decode cX16_comes 167 = .ok (.invokestatic 65, 3) := dk_184 0 65 (dk_at dksX16_comes_7 6 rfl rfl)
theorem dX16_comes_170 : decode cX16_comes 170 = .ok (.goto 4, 3) := dk_167 0 4 (dk_at dksX16_comes_7 9 rfl rfl)
theorem dX16_comes_173 : decode cX16_comes 173 = .ok (.lconst 0, 1) := dk_9 (dk_at dksX16_comes_7 12 rfl rfl)
theorem dX16_comes_174 : decode cX16_comes 174 = .ok (.lstore 15, 2) := dk_55 15 (dk_at dksX16_comes_7 13 rfl rfl)
theorem dX16_comes_176 : decode cX16_comes 176 = .ok (.aload_n 0, 1) := dk_42 (dk_at dksX16_comes_7 15 rfl rfl)
theorem dX16_comes_177 : decode cX16_comes 177 = .ok (.iload 14, 2) := dk_21 14 (dk_at dksX16_comes_7 16 rfl rfl)
theorem dX16_comes_179 : decode cX16_comes 179 = .ok (.iload 8, 2) := dk_21 8 (dk_at dksX16_comes_7 18 rfl rfl)
theorem dX16_comes_181 : decode cX16_comes 181 = .ok (.iconst 1, 1) := dk_4 (dk_at dksX16_comes_7 20 rfl rfl)
theorem dX16_comes_182 : decode cX16_comes 182 = .ok (.iload_n 1, 1) := dk_27 (dk_at dksX16_comes_7 21 rfl rfl)
theorem dX16_comes_183 : decode cX16_comes 183 = .ok (.ishl, 1) := dk_120 (dk_at dksX16_comes_7 22 rfl rfl)
theorem dX16_comes_184 : decode cX16_comes 184 = .ok (.ior, 1) := dk_128 (dk_at dksX16_comes_7 23 rfl rfl)
theorem dX16_comes_185 : decode cX16_comes 185 = .ok (.iadd, 1) := dk_96 (dk_at dksX16_comes_8 0 rfl rfl)
theorem dX16_comes_186 : decode cX16_comes 186 = .ok (.lload 15, 2) := dk_22 15 (dk_at dksX16_comes_8 1 rfl rfl)
theorem dX16_comes_188 : decode cX16_comes 188 = .ok (.invokevirtual 69, 3) := dk_182 0 69 (dk_at dksX16_comes_8 3 rfl rfl)
theorem dX16_comes_191 : decode cX16_comes 191 = .ok (.aload_n 0, 1) := dk_42 (dk_at dksX16_comes_8 6 rfl rfl)
theorem dX16_comes_192 : decode cX16_comes 192 = .ok (.iload 14, 2) := dk_21 14 (dk_at dksX16_comes_8 7 rfl rfl)
theorem dX16_comes_194 : decode cX16_comes 194 = .ok (.iload 8, 2) := dk_21 8 (dk_at dksX16_comes_8 9 rfl rfl)
theorem dX16_comes_196 : decode cX16_comes 196 = .ok (.iadd, 1) := dk_96 (dk_at dksX16_comes_8 11 rfl rfl)
theorem dX16_comes_197 : decode cX16_comes 197 = .ok (.lload 11, 2) := dk_22 11 (dk_at dksX16_comes_8 12 rfl rfl)
theorem dX16_comes_199 : decode cX16_comes 199 = .ok (.lload 15, 2) := dk_22 15 (dk_at dksX16_comes_8 14 rfl rfl)
theorem dX16_comes_201 : decode cX16_comes 201 = .ok (.lsub, 1) := dk_101 (dk_at dksX16_comes_8 16 rfl rfl)
theorem dX16_comes_202 : decode cX16_comes 202 = .ok (.invokevirtual 69, 3) := dk_182 0 69 (dk_at dksX16_comes_8 17 rfl rfl)
theorem dX16_comes_205 : decode cX16_comes 205 = .ok (.iinc 5 1, 3) := dk_132 5 1 (dk_at dksX16_comes_8 20 rfl rfl)
theorem dX16_comes_208 : decode cX16_comes 208 = .ok (.goto (-175), 3) := dk_167 255 81 (dk_at dksX16_comes_9 0 rfl rfl)
theorem dX16_comes_211 : decode cX16_comes 211 = .ok (.aload_n 0, 1) := dk_42 (dk_at dksX16_comes_9 3 rfl rfl)
theorem dX16_comes_212 : decode cX16_comes 212 = .ok (.invokevirtual 77, 3) := dk_182 0 77 (dk_at dksX16_comes_9 4 rfl rfl)
theorem dX16_comes_215 : decode cX16_comes 215 = .ok (.return_, 1) := dk_177 (dk_at dksX16_comes_9 7 rfl rfl)
abbrev cX16_worthOf : ByteArray := prog_3_method_5_code
def yX16_worthOf : MethodName := ⟨RX16, "worthOf", "(I)J"⟩
def dkwX16_worthOf_2 : List UInt8 := [180, 0, 85, 133, 167, 0, 4, 9, 97, 65, 132, 4, 1, 167, 255, 200, 32, 173]
abbrev dktX16_worthOf_2 : List UInt8 := dkwX16_worthOf_2 ++ []
def dkwX16_worthOf_1 : List UInt8 := [184, 0, 58, 153, 0, 28, 42, 180, 0, 3, 180, 0, 37, 180, 0, 80, 21, 4, 182, 0, 47, 192, 0, 83]
abbrev dktX16_worthOf_1 : List UInt8 := dkwX16_worthOf_1 ++ dktX16_worthOf_2
def dkwX16_worthOf_0 : List UInt8 := [9, 65, 3, 54, 4, 21, 4, 42, 180, 0, 3, 180, 0, 37, 182, 0, 55, 162, 0, 47, 32, 27, 21, 4]
abbrev dktX16_worthOf_0 : List UInt8 := dkwX16_worthOf_0 ++ dktX16_worthOf_1
theorem dksX16_worthOf_0 : cX16_worthOf.data.toList.drop 0 = dktX16_worthOf_0 := by decide +kernel
theorem dksX16_worthOf_1 : cX16_worthOf.data.toList.drop 24 = dktX16_worthOf_1 := dk_seg dksX16_worthOf_0 24 rfl rfl
theorem dksX16_worthOf_2 : cX16_worthOf.data.toList.drop 48 = dktX16_worthOf_2 := dk_seg dksX16_worthOf_1 24 rfl rfl
theorem dX16_worthOf_0 : decode cX16_worthOf 0 = .ok (.lconst 0, 1) := dk_9 (dk_at dksX16_worthOf_0 0 rfl rfl)
theorem dX16_worthOf_1 : decode cX16_worthOf 1 = .ok (.lstore_n 2, 1) := dk_65 (dk_at dksX16_worthOf_0 1 rfl rfl)
theorem dX16_worthOf_2 : decode cX16_worthOf 2 = .ok (.iconst 0, 1) := dk_3 (dk_at dksX16_worthOf_0 2 rfl rfl)
theorem dX16_worthOf_3 : decode cX16_worthOf 3 = .ok (.istore 4, 2) := dk_54 4 (dk_at dksX16_worthOf_0 3 rfl rfl)
theorem dX16_worthOf_5 : decode cX16_worthOf 5 = .ok (.iload 4, 2) := dk_21 4 (dk_at dksX16_worthOf_0 5 rfl rfl)
theorem dX16_worthOf_7 : decode cX16_worthOf 7 = .ok (.aload_n 0, 1) := dk_42 (dk_at dksX16_worthOf_0 7 rfl rfl)
theorem dX16_worthOf_8 : decode cX16_worthOf 8 = .ok (.getfield 3, 3) := dk_180 0 3 (dk_at dksX16_worthOf_0 8 rfl rfl)
theorem dX16_worthOf_11 : decode cX16_worthOf 11 = .ok (.getfield 37, 3) := dk_180 0 37 (dk_at dksX16_worthOf_0 11 rfl rfl)
theorem dX16_worthOf_14 : decode cX16_worthOf 14 = .ok (.invokevirtual 55, 3) := dk_182 0 55 (dk_at dksX16_worthOf_0 14 rfl rfl)
theorem dX16_worthOf_17 : decode cX16_worthOf 17 = .ok (.if_icmp .ge 47, 3) := dk_162 0 47 (dk_at dksX16_worthOf_0 17 rfl rfl)
theorem dX16_worthOf_20 : decode cX16_worthOf 20 = .ok (.lload_n 2, 1) := dk_32 (dk_at dksX16_worthOf_0 20 rfl rfl)
theorem dX16_worthOf_21 : decode cX16_worthOf 21 = .ok (.iload_n 1, 1) := dk_27 (dk_at dksX16_worthOf_0 21 rfl rfl)
theorem dX16_worthOf_22 : decode cX16_worthOf 22 = .ok (.iload 4, 2) := dk_21 4 (dk_at dksX16_worthOf_0 22 rfl rfl)
theorem dX16_worthOf_24 : decode cX16_worthOf 24 = .ok (.invokestatic 58, 3) := dk_184 0 58 (dk_at dksX16_worthOf_1 0 rfl rfl)
theorem dX16_worthOf_27 : decode cX16_worthOf 27 = .ok (.ifCond .eq 28, 3) := dk_153 0 28 (dk_at dksX16_worthOf_1 3 rfl rfl)
theorem dX16_worthOf_30 : decode cX16_worthOf 30 = .ok (.aload_n 0, 1) := dk_42 (dk_at dksX16_worthOf_1 6 rfl rfl)
theorem dX16_worthOf_31 : decode cX16_worthOf 31 = .ok (.getfield 3, 3) := dk_180 0 3 (dk_at dksX16_worthOf_1 7 rfl rfl)
theorem dX16_worthOf_34 : decode cX16_worthOf 34 = .ok (.getfield 37, 3) := dk_180 0 37 (dk_at dksX16_worthOf_1 10 rfl rfl)
theorem dX16_worthOf_37 : decode cX16_worthOf 37 = .ok (.getfield 80, 3) := dk_180 0 80 (dk_at dksX16_worthOf_1 13 rfl rfl)
theorem dX16_worthOf_40 : decode cX16_worthOf 40 = .ok (.iload 4, 2) := dk_21 4 (dk_at dksX16_worthOf_1 16 rfl rfl)
theorem dX16_worthOf_42 : decode cX16_worthOf 42 = .ok (.invokevirtual 47, 3) := dk_182 0 47 (dk_at dksX16_worthOf_1 18 rfl rfl)
theorem dX16_worthOf_45 : decode cX16_worthOf 45 = .ok (.checkcast 83, 3) := dk_192 0 83 (dk_at dksX16_worthOf_1 21 rfl rfl)
theorem dX16_worthOf_48 : decode cX16_worthOf 48 = .ok (.getfield 85, 3) := dk_180 0 85 (dk_at dksX16_worthOf_2 0 rfl rfl)
theorem dX16_worthOf_51 : decode cX16_worthOf 51 = .ok (.i2l, 1) := dk_133 (dk_at dksX16_worthOf_2 3 rfl rfl)
theorem dX16_worthOf_52 : decode cX16_worthOf 52 = .ok (.goto 4, 3) := dk_167 0 4 (dk_at dksX16_worthOf_2 4 rfl rfl)
theorem dX16_worthOf_55 : decode cX16_worthOf 55 = .ok (.lconst 0, 1) := dk_9 (dk_at dksX16_worthOf_2 7 rfl rfl)
theorem dX16_worthOf_56 : decode cX16_worthOf 56 = .ok (.ladd, 1) := dk_97 (dk_at dksX16_worthOf_2 8 rfl rfl)
theorem dX16_worthOf_57 : decode cX16_worthOf 57 = .ok (.lstore_n 2, 1) := dk_65 (dk_at dksX16_worthOf_2 9 rfl rfl)
theorem dX16_worthOf_58 : decode cX16_worthOf 58 = .ok (.iinc 4 1, 3) := dk_132 4 1 (dk_at dksX16_worthOf_2 10 rfl rfl)
theorem dX16_worthOf_61 : decode cX16_worthOf 61 = .ok (.goto (-56), 3) := dk_167 255 200 (dk_at dksX16_worthOf_2 13 rfl rfl)
theorem dX16_worthOf_64 : decode cX16_worthOf 64 = .ok (.lload_n 2, 1) := dk_32 (dk_at dksX16_worthOf_2 16 rfl rfl)
theorem dX16_worthOf_65 : decode cX16_worthOf 65 = .ok (.lreturn, 1) := dk_173 (dk_at dksX16_worthOf_2 17 rfl rfl)
abbrev cX16_caught : ByteArray := prog_3_method_7_code
def yX16_caught : MethodName := ⟨RX16, "caught", "(I)J"⟩
def dkwX16_caught_2 : List UInt8 := [97, 65, 132, 4, 1, 167, 255, 208, 32, 173]
abbrev dktX16_caught_2 : List UInt8 := dkwX16_caught_2 ++ []
def dkwX16_caught_1 : List UInt8 := [112, 27, 184, 0, 58, 153, 0, 18, 42, 180, 0, 16, 42, 180, 0, 23, 21, 4, 46, 47, 167, 0, 4, 9]
abbrev dktX16_caught_1 : List UInt8 := dkwX16_caught_1 ++ dktX16_caught_2
def dkwX16_caught_0 : List UInt8 := [9, 65, 3, 54, 4, 21, 4, 42, 180, 0, 34, 162, 0, 45, 32, 42, 180, 0, 23, 21, 4, 46, 16, 64]
abbrev dktX16_caught_0 : List UInt8 := dkwX16_caught_0 ++ dktX16_caught_1
theorem dksX16_caught_0 : cX16_caught.data.toList.drop 0 = dktX16_caught_0 := by decide +kernel
theorem dksX16_caught_1 : cX16_caught.data.toList.drop 24 = dktX16_caught_1 := dk_seg dksX16_caught_0 24 rfl rfl
theorem dksX16_caught_2 : cX16_caught.data.toList.drop 48 = dktX16_caught_2 := dk_seg dksX16_caught_1 24 rfl rfl
theorem dX16_caught_0 : decode cX16_caught 0 = .ok (.lconst 0, 1) := dk_9 (dk_at dksX16_caught_0 0 rfl rfl)
theorem dX16_caught_1 : decode cX16_caught 1 = .ok (.lstore_n 2, 1) := dk_65 (dk_at dksX16_caught_0 1 rfl rfl)
theorem dX16_caught_2 : decode cX16_caught 2 = .ok (.iconst 0, 1) := dk_3 (dk_at dksX16_caught_0 2 rfl rfl)
theorem dX16_caught_3 : decode cX16_caught 3 = .ok (.istore 4, 2) := dk_54 4 (dk_at dksX16_caught_0 3 rfl rfl)
theorem dX16_caught_5 : decode cX16_caught 5 = .ok (.iload 4, 2) := dk_21 4 (dk_at dksX16_caught_0 5 rfl rfl)
theorem dX16_caught_7 : decode cX16_caught 7 = .ok (.aload_n 0, 1) := dk_42 (dk_at dksX16_caught_0 7 rfl rfl)
theorem dX16_caught_8 : decode cX16_caught 8 = .ok (.getfield 34, 3) := dk_180 0 34 (dk_at dksX16_caught_0 8 rfl rfl)
theorem dX16_caught_11 : decode cX16_caught 11 = .ok (.if_icmp .ge 45, 3) := dk_162 0 45 (dk_at dksX16_caught_0 11 rfl rfl)
theorem dX16_caught_14 : decode cX16_caught 14 = .ok (.lload_n 2, 1) := dk_32 (dk_at dksX16_caught_0 14 rfl rfl)
theorem dX16_caught_15 : decode cX16_caught 15 = .ok (.aload_n 0, 1) := dk_42 (dk_at dksX16_caught_0 15 rfl rfl)
theorem dX16_caught_16 : decode cX16_caught 16 = .ok (.getfield 23, 3) := dk_180 0 23 (dk_at dksX16_caught_0 16 rfl rfl)
theorem dX16_caught_19 : decode cX16_caught 19 = .ok (.iload 4, 2) := dk_21 4 (dk_at dksX16_caught_0 19 rfl rfl)
theorem dX16_caught_21 : decode cX16_caught 21 = .ok (.iaload, 1) := dk_46 (dk_at dksX16_caught_0 21 rfl rfl)
theorem dX16_caught_22 : decode cX16_caught 22 = .ok (.bipush 64, 2) := dk_16 64 (dk_at dksX16_caught_0 22 rfl rfl)
theorem dX16_caught_24 : decode cX16_caught 24 = .ok (.irem, 1) := dk_112 (dk_at dksX16_caught_1 0 rfl rfl)
theorem dX16_caught_25 : decode cX16_caught 25 = .ok (.iload_n 1, 1) := dk_27 (dk_at dksX16_caught_1 1 rfl rfl)
theorem dX16_caught_26 : decode cX16_caught 26 = .ok (.invokestatic 58, 3) := dk_184 0 58 (dk_at dksX16_caught_1 2 rfl rfl)
theorem dX16_caught_29 : decode cX16_caught 29 = .ok (.ifCond .eq 18, 3) := dk_153 0 18 (dk_at dksX16_caught_1 5 rfl rfl)
theorem dX16_caught_32 : decode cX16_caught 32 = .ok (.aload_n 0, 1) := dk_42 (dk_at dksX16_caught_1 8 rfl rfl)
theorem dX16_caught_33 : decode cX16_caught 33 = .ok (.getfield 16, 3) := dk_180 0 16 (dk_at dksX16_caught_1 9 rfl rfl)
theorem dX16_caught_36 : decode cX16_caught 36 = .ok (.aload_n 0, 1) := dk_42 (dk_at dksX16_caught_1 12 rfl rfl)
theorem dX16_caught_37 : decode cX16_caught 37 = .ok (.getfield 23, 3) := dk_180 0 23 (dk_at dksX16_caught_1 13 rfl rfl)
theorem dX16_caught_40 : decode cX16_caught 40 = .ok (.iload 4, 2) := dk_21 4 (dk_at dksX16_caught_1 16 rfl rfl)
theorem dX16_caught_42 : decode cX16_caught 42 = .ok (.iaload, 1) := dk_46 (dk_at dksX16_caught_1 18 rfl rfl)
theorem dX16_caught_43 : decode cX16_caught 43 = .ok (.laload, 1) := dk_47 (dk_at dksX16_caught_1 19 rfl rfl)
theorem dX16_caught_44 : decode cX16_caught 44 = .ok (.goto 4, 3) := dk_167 0 4 (dk_at dksX16_caught_1 20 rfl rfl)
theorem dX16_caught_47 : decode cX16_caught 47 = .ok (.lconst 0, 1) := dk_9 (dk_at dksX16_caught_1 23 rfl rfl)
theorem dX16_caught_48 : decode cX16_caught 48 = .ok (.ladd, 1) := dk_97 (dk_at dksX16_caught_2 0 rfl rfl)
theorem dX16_caught_49 : decode cX16_caught 49 = .ok (.lstore_n 2, 1) := dk_65 (dk_at dksX16_caught_2 1 rfl rfl)
theorem dX16_caught_50 : decode cX16_caught 50 = .ok (.iinc 4 1, 3) := dk_132 4 1 (dk_at dksX16_caught_2 2 rfl rfl)
theorem dX16_caught_53 : decode cX16_caught 53 = .ok (.goto (-48), 3) := dk_167 255 208 (dk_at dksX16_caught_2 5 rfl rfl)
theorem dX16_caught_56 : decode cX16_caught 56 = .ok (.lload_n 2, 1) := dk_32 (dk_at dksX16_caught_2 8 rfl rfl)
theorem dX16_caught_57 : decode cX16_caught 57 = .ok (.lreturn, 1) := dk_173 (dk_at dksX16_caught_2 9 rfl rfl)
theorem q173 : (Jvm.Cond.initialized "LockRail$Baited") ∈ lw_all := lw_g (lw_at lw_m1 34 rfl) rfl
theorem q228 : (Jvm.Cond.fieldLinkNest "LockRail$Baited" (94 : Nat) "LockRail$Rail" "nights" "I" "LockRail") ∈ lw_tbl := lw_at lw_m1 89 rfl
theorem q259 : (Jvm.Cond.fieldLinkNest "LockRail$Baited" (80 : Nat) "LockRail$Rail" "bikes" "Ljava/util/ArrayList;" "LockRail") ∈ lw_tbl := lw_at lw_m1 120 rfl
theorem q265 : (Jvm.Cond.fieldLinkNest "LockRail$Baited" (41 : Nat) "LockRail$Rail" "thieves" "Ljava/util/ArrayList;" "LockRail") ∈ lw_tbl := lw_at lw_m1 126 rfl
theorem q408 : (Jvm.Cond.fieldLinkNest "LockRail$Baited" (37 : Nat) "LockRail" "rail" "LLockRail$Rail;" "LockRail") ∈ lw_tbl := lw_at lw_m2 29 rfl
theorem q767 : (Jvm.Cond.selects "LockRail$Baited" ({ cls := "java/lang/Object", name := "getClass", desc := "()Ljava/lang/Class;" } : Jvm.MethodName) ({ cls := "java/lang/Object", name := "getClass", desc := "()Ljava/lang/Class;" } : Jvm.MethodName)) ∈ lw_all := lw_g (lw_at lw_m3 148 rfl) rfl
theorem q853 : (Jvm.Cond.fieldLinkNest "LockRail$Baited" (85 : Nat) "LockRail$Bike" "worth" "I" "LockRail") ∈ lw_tbl := lw_at lw_m3 234 rfl
theorem q905 : (Jvm.Cond.fieldLink "LockRail$Baited" (62 : Nat) "LockRail$Thief" "comes" "I") ∈ lw_all := lw_g (lw_at lw_m4 46 rfl) rfl
theorem q1376 : (Jvm.Cond.instantiable "LockRail$Baited" (8 : Nat)) ∈ lw_all := lw_g (lw_at lw_m6 37 rfl) rfl
theorem q1378 : (Jvm.Cond.instanceMethod ({ cls := "LockRail$Baited", name := "<init>", desc := "(LLockRail;)V" } : Jvm.MethodName)) ∈ lw_all := lw_g (lw_at lw_m6 39 rfl) rfl
theorem q1379 : (Jvm.Cond.code ({ cls := "LockRail$Baited", name := "<init>", desc := "(LLockRail;)V" } : Jvm.MethodName) prog_3_method_1_code (2 : Nat) (Option.none : Option Jvm.ClassFile.FieldType)) ∈ lw_all := lw_g (lw_at lw_m6 40 rfl) rfl
theorem q1380 : (Jvm.Cond.methodLink "LockRail$Baited" (9 : Nat) ({ cls := "java/lang/Object", name := "<init>", desc := "()V" } : Jvm.MethodName)) ∈ lw_all := lw_g (lw_at lw_m6 41 rfl) rfl
theorem q1381 : (Jvm.Cond.constant "LockRail$Baited" (15 : Nat) (131072 : Int32)) ∈ lw_all := lw_g (lw_at lw_m6 42 rfl) rfl
theorem q1382 : (Jvm.Cond.fieldLink "LockRail$Baited" (16 : Nat) "LockRail$Baited" "parts" "[J") ∈ lw_all := lw_g (lw_at lw_m6 43 rfl) rfl
theorem q1383 : (Jvm.Cond.fieldLink "LockRail$Baited" (20 : Nat) "LockRail$Baited" "then" "[J") ∈ lw_all := lw_g (lw_at lw_m6 44 rfl) rfl
theorem q1384 : (Jvm.Cond.fieldLink "LockRail$Baited" (23 : Nat) "LockRail$Baited" "cells" "[I") ∈ lw_all := lw_g (lw_at lw_m6 45 rfl) rfl
theorem q1385 : (Jvm.Cond.fieldLink "LockRail$Baited" (27 : Nat) "LockRail$Baited" "nextCells" "[I") ∈ lw_all := lw_g (lw_at lw_m6 46 rfl) rfl
theorem q1386 : (Jvm.Cond.fieldLink "LockRail$Baited" (34 : Nat) "LockRail$Baited" "many" "I") ∈ lw_all := lw_g (lw_at lw_m6 47 rfl) rfl
theorem q1387 : (Jvm.Cond.fieldLink "LockRail$Baited" (30 : Nat) "LockRail$Baited" "nextMany" "I") ∈ lw_all := lw_g (lw_at lw_m6 48 rfl) rfl
theorem q1388 : (Jvm.Cond.fieldLink "LockRail$Baited" (88 : Nat) "LockRail$Baited" "lost" "J") ∈ lw_all := lw_g (lw_at lw_m6 49 rfl) rfl
theorem q1390 : (Jvm.Cond.fieldLink "LockRail$Baited" (3 : Nat) "LockRail$Baited" "this$0" "LLockRail;") ∈ lw_all := lw_g (lw_at lw_m6 51 rfl) rfl
theorem q1391 : (Jvm.Cond.laysFinal "LockRail$Baited" "LockRail$Baited" "parts" "[J") ∈ lw_all := lw_g (lw_at lw_m6 52 rfl) rfl
theorem q1392 : (Jvm.Cond.soleField "LockRail$Baited" "parts") ∈ lw_all := lw_g (lw_at lw_m6 53 rfl) rfl
theorem q1393 : (Jvm.Cond.laysFinal "LockRail$Baited" "LockRail$Baited" "then" "[J") ∈ lw_all := lw_g (lw_at lw_m6 54 rfl) rfl
theorem q1394 : (Jvm.Cond.soleField "LockRail$Baited" "then") ∈ lw_all := lw_g (lw_at lw_m6 55 rfl) rfl
theorem q1395 : (Jvm.Cond.lays "LockRail$Baited" "LockRail$Baited" "cells" "[I") ∈ lw_all := lw_g (lw_at lw_m6 56 rfl) rfl
theorem q1396 : (Jvm.Cond.soleField "LockRail$Baited" "cells") ∈ lw_all := lw_g (lw_at lw_m6 57 rfl) rfl
theorem q1397 : (Jvm.Cond.lays "LockRail$Baited" "LockRail$Baited" "nextCells" "[I") ∈ lw_all := lw_g (lw_at lw_m6 58 rfl) rfl
theorem q1398 : (Jvm.Cond.soleField "LockRail$Baited" "nextCells") ∈ lw_all := lw_g (lw_at lw_m6 59 rfl) rfl
theorem q1399 : (Jvm.Cond.lays "LockRail$Baited" "LockRail$Baited" "many" "I") ∈ lw_all := lw_g (lw_at lw_m6 60 rfl) rfl
theorem q1400 : (Jvm.Cond.soleField "LockRail$Baited" "many") ∈ lw_all := lw_g (lw_at lw_m6 61 rfl) rfl
theorem q1401 : (Jvm.Cond.lays "LockRail$Baited" "LockRail$Baited" "nextMany" "I") ∈ lw_all := lw_g (lw_at lw_m6 62 rfl) rfl
theorem q1402 : (Jvm.Cond.soleField "LockRail$Baited" "nextMany") ∈ lw_all := lw_g (lw_at lw_m6 63 rfl) rfl
theorem q1403 : (Jvm.Cond.lays "LockRail$Baited" "LockRail$Baited" "lost" "J") ∈ lw_all := lw_g (lw_at lw_m6 64 rfl) rfl
theorem q1404 : (Jvm.Cond.soleField "LockRail$Baited" "lost") ∈ lw_all := lw_g (lw_at lw_m6 65 rfl) rfl
theorem q1405 : (Jvm.Cond.laysFinal "LockRail$Baited" "LockRail$Baited" "this$0" "LLockRail;") ∈ lw_all := lw_g (lw_at lw_m6 66 rfl) rfl
theorem q1406 : (Jvm.Cond.soleField "LockRail$Baited" "this$0") ∈ lw_all := lw_g (lw_at lw_m6 67 rfl) rfl
theorem q1407 : (Jvm.Cond.superclass "LockRail$Baited" "java/lang/Object") ∈ lw_all := lw_g (lw_at lw_m6 68 rfl) rfl
theorem q1410 : (Jvm.Cond.instanceMethod ({ cls := "LockRail$Baited", name := "lay", desc := "(I)LLockRail$Baited;" } : Jvm.MethodName)) ∈ lw_all := lw_g (lw_at lw_m6 71 rfl) rfl
theorem q1411 : (Jvm.Cond.selects "LockRail$Baited" ({ cls := "LockRail$Baited", name := "lay", desc := "(I)LLockRail$Baited;" } : Jvm.MethodName) ({ cls := "LockRail$Baited", name := "lay", desc := "(I)LLockRail$Baited;" } : Jvm.MethodName)) ∈ lw_all := lw_g (lw_at lw_m6 72 rfl) rfl
theorem q1412 : (Jvm.Cond.code ({ cls := "LockRail$Baited", name := "lay", desc := "(I)LLockRail$Baited;" } : Jvm.MethodName) prog_3_method_6_code (4 : Nat) (Option.some (Jvm.ClassFile.FieldType.object "LockRail$Baited"))) ∈ lw_all := lw_g (lw_at lw_m6 73 rfl) rfl
theorem q1413 : (Jvm.Cond.constantLong "LockRail$Baited" (92 : Nat) (1000000000000 : Int64)) ∈ lw_all := lw_g (lw_at lw_m6 74 rfl) rfl
theorem q1414 : (Jvm.Cond.methodLink "LockRail$Baited" (69 : Nat) ({ cls := "LockRail$Baited", name := "puts", desc := "(IJ)V" } : Jvm.MethodName)) ∈ lw_all := lw_g (lw_at lw_m6 75 rfl) rfl
theorem q1415 : (Jvm.Cond.privateMethod ({ cls := "LockRail$Baited", name := "puts", desc := "(IJ)V" } : Jvm.MethodName)) ∈ lw_tbl := lw_at lw_m6 76 rfl
theorem q1416 : (Jvm.Cond.instanceMethod ({ cls := "LockRail$Baited", name := "puts", desc := "(IJ)V" } : Jvm.MethodName)) ∈ lw_all := lw_g (lw_at lw_m6 77 rfl) rfl
theorem q1417 : (Jvm.Cond.code ({ cls := "LockRail$Baited", name := "puts", desc := "(IJ)V" } : Jvm.MethodName) prog_3_method_2_code (4 : Nat) (Option.none : Option Jvm.ClassFile.FieldType)) ∈ lw_all := lw_g (lw_at lw_m6 78 rfl) rfl
theorem q1418 : (Jvm.Cond.methodLink "LockRail$Baited" (77 : Nat) ({ cls := "LockRail$Baited", name := "settles", desc := "()V" } : Jvm.MethodName)) ∈ lw_all := lw_g (lw_at lw_m6 79 rfl) rfl
theorem q1419 : (Jvm.Cond.privateMethod ({ cls := "LockRail$Baited", name := "settles", desc := "()V" } : Jvm.MethodName)) ∈ lw_tbl := lw_at lw_m6 80 rfl
theorem q1420 : (Jvm.Cond.instanceMethod ({ cls := "LockRail$Baited", name := "settles", desc := "()V" } : Jvm.MethodName)) ∈ lw_all := lw_g (lw_at lw_m6 81 rfl) rfl
theorem q1421 : (Jvm.Cond.code ({ cls := "LockRail$Baited", name := "settles", desc := "()V" } : Jvm.MethodName) prog_3_method_3_code (2 : Nat) (Option.none : Option Jvm.ClassFile.FieldType)) ∈ lw_all := lw_g (lw_at lw_m6 82 rfl) rfl
theorem q1422 : (Jvm.Cond.methodLink "LockRail$Baited" (97 : Nat) ({ cls := "java/util/ArrayList", name := "size", desc := "()I" } : Jvm.MethodName)) ∈ lw_all := lw_g (lw_at lw_m6 83 rfl) rfl
theorem q1423 : (Jvm.Cond.methodLink "LockRail$Baited" (100 : Nat) ({ cls := "LockRail$Baited", name := "comes", desc := "(II)V" } : Jvm.MethodName)) ∈ lw_all := lw_g (lw_at lw_m6 84 rfl) rfl
theorem q1424 : (Jvm.Cond.privateMethod ({ cls := "LockRail$Baited", name := "comes", desc := "(II)V" } : Jvm.MethodName)) ∈ lw_tbl := lw_at lw_m6 85 rfl
theorem q1425 : (Jvm.Cond.instanceMethod ({ cls := "LockRail$Baited", name := "comes", desc := "(II)V" } : Jvm.MethodName)) ∈ lw_all := lw_g (lw_at lw_m6 86 rfl) rfl
theorem q1426 : (Jvm.Cond.code ({ cls := "LockRail$Baited", name := "comes", desc := "(II)V" } : Jvm.MethodName) prog_3_method_4_code (17 : Nat) (Option.none : Option Jvm.ClassFile.FieldType)) ∈ lw_all := lw_g (lw_at lw_m6 87 rfl) rfl
theorem q1427 : (Jvm.Cond.methodLink "LockRail$Baited" (47 : Nat) ({ cls := "java/util/ArrayList", name := "get", desc := "(I)Ljava/lang/Object;" } : Jvm.MethodName)) ∈ lw_all := lw_g (lw_at lw_m6 88 rfl) rfl
theorem q1428 : (Jvm.Cond.classLink "LockRail$Baited" (53 : Nat) "LockRail$Thief") ∈ lw_all := lw_g (lw_at lw_m6 89 rfl) rfl
theorem q1429 : (Jvm.Cond.methodLink "LockRail$Baited" (55 : Nat) ({ cls := "LockRail$Rail", name := "many", desc := "()I" } : Jvm.MethodName)) ∈ lw_all := lw_g (lw_at lw_m6 90 rfl) rfl
theorem q1430 : (Jvm.Cond.methodLinkNest "LockRail$Baited" (58 : Nat) ({ cls := "LockRail", name := "holds", desc := "(II)Z" } : Jvm.MethodName) "LockRail") ∈ lw_tbl := lw_at lw_m6 91 rfl
theorem q1431 : (Jvm.Cond.methodLinkNest "LockRail$Baited" (65 : Nat) ({ cls := "LockRail", name := "hundredth", desc := "(JI)J" } : Jvm.MethodName) "LockRail") ∈ lw_tbl := lw_at lw_m6 92 rfl
theorem q1432 : (Jvm.Cond.methodLink "LockRail$Baited" (73 : Nat) ({ cls := "LockRail$Thief", name := "takes", desc := "(LLockRail$Rail;I)I" } : Jvm.MethodName)) ∈ lw_all := lw_g (lw_at lw_m6 93 rfl) rfl
theorem q1433 : (Jvm.Cond.methodLink "LockRail$Baited" (103 : Nat) ({ cls := "LockRail$Baited", name := "worthOf", desc := "(I)J" } : Jvm.MethodName)) ∈ lw_all := lw_g (lw_at lw_m6 94 rfl) rfl
theorem q1434 : (Jvm.Cond.privateMethod ({ cls := "LockRail$Baited", name := "worthOf", desc := "(I)J" } : Jvm.MethodName)) ∈ lw_tbl := lw_at lw_m6 95 rfl
theorem q1435 : (Jvm.Cond.instanceMethod ({ cls := "LockRail$Baited", name := "worthOf", desc := "(I)J" } : Jvm.MethodName)) ∈ lw_all := lw_g (lw_at lw_m6 96 rfl) rfl
theorem q1436 : (Jvm.Cond.code ({ cls := "LockRail$Baited", name := "worthOf", desc := "(I)J" } : Jvm.MethodName) prog_3_method_5_code (5 : Nat) (Option.some Jvm.ClassFile.FieldType.long)) ∈ lw_all := lw_g (lw_at lw_m6 97 rfl) rfl
theorem q1437 : (Jvm.Cond.classLink "LockRail$Baited" (83 : Nat) "LockRail$Bike") ∈ lw_all := lw_g (lw_at lw_m6 98 rfl) rfl
theorem q1444 : (Jvm.Cond.instanceMethod ({ cls := "LockRail$Baited", name := "caught", desc := "(I)J" } : Jvm.MethodName)) ∈ lw_all := lw_g (lw_at lw_m6 105 rfl) rfl
theorem q1445 : (Jvm.Cond.selects "LockRail$Baited" ({ cls := "LockRail$Baited", name := "caught", desc := "(I)J" } : Jvm.MethodName) ({ cls := "LockRail$Baited", name := "caught", desc := "(I)J" } : Jvm.MethodName)) ∈ lw_all := lw_g (lw_at lw_m6 106 rfl) rfl
theorem q1446 : (Jvm.Cond.code ({ cls := "LockRail$Baited", name := "caught", desc := "(I)J" } : Jvm.MethodName) prog_3_method_7_code (5 : Nat) (Option.some Jvm.ClassFile.FieldType.long)) ∈ lw_all := lw_g (lw_at lw_m6 107 rfl) rfl
theorem q2554 : (Jvm.Cond.castable "LockRail$Baited" "java/lang/Object") ∈ lw_tbl := lw_at lw_m11 15 rfl
theorem in_X16 : ∀ w ∈ wsX160, w ∈ lw_all := lw_in wsX160 [1391, 1393, 1395, 1397, 1399, 1401, 1403, 1405] (by decide +kernel) (by decide +kernel)

/-! LockRail$Draws -/
set_option maxRecDepth 100000
def RX17 : String := "LockRail$Draws"
def TX17 : u_T := fun k => match k with
  | _ => ("LockRail$Draws", "x", "J", false)
def tyX17 : Nat → FieldType := fun k => match k with
  | _ => .long
abbrev wsX170 : List Cond := u_ws RX17 TX17 1
theorem nmX17 : ∀ a, a < 1 → ∀ b, b < 1 → a ≠ b → (TX17 a).2.1 ≠ (TX17 b).2.1 := by decide +kernel
theorem tyX17_ok : ∀ k, k < 1 → parseFieldDescriptor (TX17 k).2.2.1 = some (tyX17 k) := by decide +kernel
abbrev cX17_init : ByteArray := prog_6_method_1_code
def yX17_init : MethodName := ⟨RX17, "<init>", "(J)V"⟩
def dkwX17_init_0 : List UInt8 := [42, 183, 0, 3, 42, 31, 181, 0, 9, 177]
abbrev dktX17_init_0 : List UInt8 := dkwX17_init_0 ++ []
theorem dksX17_init_0 : cX17_init.data.toList.drop 0 = dktX17_init_0 := by decide +kernel
theorem dX17_init_0 : decode cX17_init 0 = .ok (.aload_n 0, 1) := dk_42 (dk_at dksX17_init_0 0 rfl rfl)
theorem dX17_init_1 : decode cX17_init 1 = .ok (.invokespecial 3, 3) := dk_183 0 3 (dk_at dksX17_init_0 1 rfl rfl)
theorem dX17_init_4 : decode cX17_init 4 = .ok (.aload_n 0, 1) := dk_42 (dk_at dksX17_init_0 4 rfl rfl)
theorem dX17_init_5 : decode cX17_init 5 = .ok (.lload_n 1, 1) := dk_31 (dk_at dksX17_init_0 5 rfl rfl)
theorem dX17_init_6 : decode cX17_init 6 = .ok (.putfield 9, 3) := dk_181 0 9 (dk_at dksX17_init_0 6 rfl rfl)
theorem dX17_init_9 : decode cX17_init 9 = .ok (.return_, 1) := dk_177 (dk_at dksX17_init_0 9 rfl rfl)
abbrev cX17_next : ByteArray := prog_6_method_2_code
def yX17_next : MethodName := ⟨RX17, "next", "()I"⟩
def dkwX17_next_1 : List UInt8 := [20, 0, 21, 109, 20, 0, 23, 113, 136, 172]
abbrev dktX17_next_1 : List UInt8 := dkwX17_next_1 ++ []
def dkwX17_next_0 : List UInt8 := [42, 20, 0, 15, 42, 180, 0, 9, 105, 20, 0, 17, 97, 20, 0, 19, 113, 181, 0, 9, 42, 180, 0, 9]
abbrev dktX17_next_0 : List UInt8 := dkwX17_next_0 ++ dktX17_next_1
theorem dksX17_next_0 : cX17_next.data.toList.drop 0 = dktX17_next_0 := by decide +kernel
theorem dksX17_next_1 : cX17_next.data.toList.drop 24 = dktX17_next_1 := dk_seg dksX17_next_0 24 rfl rfl
theorem dX17_next_0 : decode cX17_next 0 = .ok (.aload_n 0, 1) := dk_42 (dk_at dksX17_next_0 0 rfl rfl)
theorem dX17_next_1 : decode cX17_next 1 = .ok (.ldc2_w 15, 3) := dk_20 0 15 (dk_at dksX17_next_0 1 rfl rfl)
theorem dX17_next_4 : decode cX17_next 4 = .ok (.aload_n 0, 1) := dk_42 (dk_at dksX17_next_0 4 rfl rfl)
theorem dX17_next_5 : decode cX17_next 5 = .ok (.getfield 9, 3) := dk_180 0 9 (dk_at dksX17_next_0 5 rfl rfl)
theorem dX17_next_8 : decode cX17_next 8 = .ok (.lmul, 1) := dk_105 (dk_at dksX17_next_0 8 rfl rfl)
theorem dX17_next_9 : decode cX17_next 9 = .ok (.ldc2_w 17, 3) := dk_20 0 17 (dk_at dksX17_next_0 9 rfl rfl)
theorem dX17_next_12 : decode cX17_next 12 = .ok (.ladd, 1) := dk_97 (dk_at dksX17_next_0 12 rfl rfl)
theorem dX17_next_13 : decode cX17_next 13 = .ok (.ldc2_w 19, 3) := dk_20 0 19 (dk_at dksX17_next_0 13 rfl rfl)
theorem dX17_next_16 : decode cX17_next 16 = .ok (.lrem, 1) := dk_113 (dk_at dksX17_next_0 16 rfl rfl)
theorem dX17_next_17 : decode cX17_next 17 = .ok (.putfield 9, 3) := dk_181 0 9 (dk_at dksX17_next_0 17 rfl rfl)
theorem dX17_next_20 : decode cX17_next 20 = .ok (.aload_n 0, 1) := dk_42 (dk_at dksX17_next_0 20 rfl rfl)
theorem dX17_next_21 : decode cX17_next 21 = .ok (.getfield 9, 3) := dk_180 0 9 (dk_at dksX17_next_0 21 rfl rfl)
theorem dX17_next_24 : decode cX17_next 24 = .ok (.ldc2_w 21, 3) := dk_20 0 21 (dk_at dksX17_next_1 0 rfl rfl)
theorem dX17_next_27 : decode cX17_next 27 = .ok (.ldiv, 1) := dk_109 (dk_at dksX17_next_1 3 rfl rfl)
theorem dX17_next_28 : decode cX17_next 28 = .ok (.ldc2_w 23, 3) := dk_20 0 23 (dk_at dksX17_next_1 4 rfl rfl)
theorem dX17_next_31 : decode cX17_next 31 = .ok (.lrem, 1) := dk_113 (dk_at dksX17_next_1 7 rfl rfl)
theorem dX17_next_32 : decode cX17_next 32 = .ok (.l2i, 1) := dk_136 (dk_at dksX17_next_1 8 rfl rfl)
theorem dX17_next_33 : decode cX17_next 33 = .ok (.ireturn, 1) := dk_172 (dk_at dksX17_next_1 9 rfl rfl)
theorem q174 : (Jvm.Cond.initialized "LockRail$Draws") ∈ lw_all := lw_g (lw_at lw_m1 35 rfl) rfl
theorem q770 : (Jvm.Cond.selects "LockRail$Draws" ({ cls := "java/lang/Object", name := "getClass", desc := "()Ljava/lang/Class;" } : Jvm.MethodName) ({ cls := "java/lang/Object", name := "getClass", desc := "()Ljava/lang/Class;" } : Jvm.MethodName)) ∈ lw_all := lw_g (lw_at lw_m3 151 rfl) rfl
theorem q1509 : (Jvm.Cond.instantiable "LockRail$Draws" (1 : Nat)) ∈ lw_all := lw_g (lw_at lw_m6 170 rfl) rfl
theorem q1511 : (Jvm.Cond.instanceMethod ({ cls := "LockRail$Draws", name := "<init>", desc := "(J)V" } : Jvm.MethodName)) ∈ lw_all := lw_g (lw_at lw_m6 172 rfl) rfl
theorem q1512 : (Jvm.Cond.code ({ cls := "LockRail$Draws", name := "<init>", desc := "(J)V" } : Jvm.MethodName) prog_6_method_1_code (3 : Nat) (Option.none : Option Jvm.ClassFile.FieldType)) ∈ lw_all := lw_g (lw_at lw_m6 173 rfl) rfl
theorem q1513 : (Jvm.Cond.methodLink "LockRail$Draws" (3 : Nat) ({ cls := "java/lang/Object", name := "<init>", desc := "()V" } : Jvm.MethodName)) ∈ lw_all := lw_g (lw_at lw_m6 174 rfl) rfl
theorem q1514 : (Jvm.Cond.fieldLink "LockRail$Draws" (9 : Nat) "LockRail$Draws" "x" "J") ∈ lw_all := lw_g (lw_at lw_m6 175 rfl) rfl
theorem q1515 : (Jvm.Cond.lays "LockRail$Draws" "LockRail$Draws" "x" "J") ∈ lw_all := lw_g (lw_at lw_m6 176 rfl) rfl
theorem q1516 : (Jvm.Cond.soleField "LockRail$Draws" "x") ∈ lw_all := lw_g (lw_at lw_m6 177 rfl) rfl
theorem q1517 : (Jvm.Cond.superclass "LockRail$Draws" "java/lang/Object") ∈ lw_all := lw_g (lw_at lw_m6 178 rfl) rfl
theorem q1524 : (Jvm.Cond.instanceMethod ({ cls := "LockRail$Draws", name := "next", desc := "()I" } : Jvm.MethodName)) ∈ lw_all := lw_g (lw_at lw_m6 185 rfl) rfl
theorem q1525 : (Jvm.Cond.selects "LockRail$Draws" ({ cls := "LockRail$Draws", name := "next", desc := "()I" } : Jvm.MethodName) ({ cls := "LockRail$Draws", name := "next", desc := "()I" } : Jvm.MethodName)) ∈ lw_all := lw_g (lw_at lw_m6 186 rfl) rfl
theorem q1526 : (Jvm.Cond.code ({ cls := "LockRail$Draws", name := "next", desc := "()I" } : Jvm.MethodName) prog_6_method_2_code (1 : Nat) (Option.some Jvm.ClassFile.FieldType.int)) ∈ lw_all := lw_g (lw_at lw_m6 187 rfl) rfl
theorem q1527 : (Jvm.Cond.constantLong "LockRail$Draws" (15 : Nat) (1103515245 : Int64)) ∈ lw_all := lw_g (lw_at lw_m6 188 rfl) rfl
theorem q1528 : (Jvm.Cond.constantLong "LockRail$Draws" (17 : Nat) (12345 : Int64)) ∈ lw_all := lw_g (lw_at lw_m6 189 rfl) rfl
theorem q1529 : (Jvm.Cond.constantLong "LockRail$Draws" (19 : Nat) (2147483648 : Int64)) ∈ lw_all := lw_g (lw_at lw_m6 190 rfl) rfl
theorem q1530 : (Jvm.Cond.constantLong "LockRail$Draws" (21 : Nat) (65536 : Int64)) ∈ lw_all := lw_g (lw_at lw_m6 191 rfl) rfl
theorem q1531 : (Jvm.Cond.constantLong "LockRail$Draws" (23 : Nat) (100 : Int64)) ∈ lw_all := lw_g (lw_at lw_m6 192 rfl) rfl
theorem q2555 : (Jvm.Cond.castable "LockRail$Draws" "java/lang/Object") ∈ lw_tbl := lw_at lw_m11 16 rfl
theorem in_X17 : ∀ w ∈ wsX170, w ∈ lw_all := lw_in wsX170 [1515] (by decide +kernel) (by decide +kernel)

/-! LockRail$Night -/
set_option maxRecDepth 100000
def RX2 : String := "LockRail$Night"
def TX2 : u_T := fun k => match k with
  | 0 => ("LockRail$Night", "parts", "[J", true)
  | 1 => ("LockRail$Night", "then", "[J", true)
  | 2 => ("LockRail$Night", "sets", "[I", false)
  | 3 => ("LockRail$Night", "nextSets", "[I", false)
  | 4 => ("LockRail$Night", "setMany", "I", false)
  | 5 => ("LockRail$Night", "nextMany", "I", false)
  | 6 => ("LockRail$Night", "byThief", "[J", true)
  | _ => ("LockRail$Night", "this$0", "LLockRail;", true)
def tyX2 : Nat → FieldType := fun k => match k with
  | 0 => .array .long
  | 1 => .array .long
  | 2 => .array .int
  | 3 => .array .int
  | 4 => .int
  | 5 => .int
  | 6 => .array .long
  | _ => .object "LockRail"
abbrev wsX20 : List Cond := u_ws RX2 TX2 8
theorem nmX2 : ∀ a, a < 8 → ∀ b, b < 8 → a ≠ b → (TX2 a).2.1 ≠ (TX2 b).2.1 := by decide +kernel
theorem tyX2_ok : ∀ k, k < 8 → parseFieldDescriptor (TX2 k).2.2.1 = some (tyX2 k) := by decide +kernel
abbrev cX2_init : ByteArray := prog_12_method_1_code
def yX2_init : MethodName := ⟨RX2, "<init>", "(LLockRail;)V"⟩
def dkwX2_init_2 : List UInt8 := [188, 11, 181, 0, 29, 177]
abbrev dktX2_init_2 : List UInt8 := dkwX2_init_2 ++ []
def dkwX2_init_1 : List UInt8 := [181, 0, 19, 42, 17, 4, 0, 188, 10, 181, 0, 22, 42, 17, 4, 0, 188, 10, 181, 0, 26, 42, 16, 10]
abbrev dktX2_init_1 : List UInt8 := dkwX2_init_1 ++ dktX2_init_2
def dkwX2_init_0 : List UInt8 := [42, 43, 181, 0, 3, 42, 183, 0, 9, 42, 17, 4, 0, 188, 11, 181, 0, 15, 42, 17, 4, 0, 188, 11]
abbrev dktX2_init_0 : List UInt8 := dkwX2_init_0 ++ dktX2_init_1
theorem dksX2_init_0 : cX2_init.data.toList.drop 0 = dktX2_init_0 := by decide +kernel
theorem dksX2_init_1 : cX2_init.data.toList.drop 24 = dktX2_init_1 := dk_seg dksX2_init_0 24 rfl rfl
theorem dksX2_init_2 : cX2_init.data.toList.drop 48 = dktX2_init_2 := dk_seg dksX2_init_1 24 rfl rfl
theorem dX2_init_0 : decode cX2_init 0 = .ok (.aload_n 0, 1) := dk_42 (dk_at dksX2_init_0 0 rfl rfl)
theorem dX2_init_1 : decode cX2_init 1 = .ok (.aload_n 1, 1) := dk_43 (dk_at dksX2_init_0 1 rfl rfl)
theorem dX2_init_2 : decode cX2_init 2 = .ok (.putfield 3, 3) := dk_181 0 3 (dk_at dksX2_init_0 2 rfl rfl)
theorem dX2_init_5 : decode cX2_init 5 = .ok (.aload_n 0, 1) := dk_42 (dk_at dksX2_init_0 5 rfl rfl)
theorem dX2_init_6 : decode cX2_init 6 = .ok (.invokespecial 9, 3) := dk_183 0 9 (dk_at dksX2_init_0 6 rfl rfl)
theorem dX2_init_9 : decode cX2_init 9 = .ok (.aload_n 0, 1) := dk_42 (dk_at dksX2_init_0 9 rfl rfl)
theorem dX2_init_10 : decode cX2_init 10 = .ok (.sipush 1024, 3) := dk_17 4 0 (dk_at dksX2_init_0 10 rfl rfl)
theorem dX2_init_13 : decode cX2_init 13 = .ok (.newarray .long, 2) := dk_188_11 (dk_at dksX2_init_0 13 rfl rfl)
theorem dX2_init_15 : decode cX2_init 15 = .ok (.putfield 15, 3) := dk_181 0 15 (dk_at dksX2_init_0 15 rfl rfl)
theorem dX2_init_18 : decode cX2_init 18 = .ok (.aload_n 0, 1) := dk_42 (dk_at dksX2_init_0 18 rfl rfl)
theorem dX2_init_19 : decode cX2_init 19 = .ok (.sipush 1024, 3) := dk_17 4 0 (dk_at dksX2_init_0 19 rfl rfl)
theorem dX2_init_22 : decode cX2_init 22 = .ok (.newarray .long, 2) := dk_188_11 (dk_at dksX2_init_0 22 rfl rfl)
theorem dX2_init_24 : decode cX2_init 24 = .ok (.putfield 19, 3) := dk_181 0 19 (dk_at dksX2_init_1 0 rfl rfl)
theorem dX2_init_27 : decode cX2_init 27 = .ok (.aload_n 0, 1) := dk_42 (dk_at dksX2_init_1 3 rfl rfl)
theorem dX2_init_28 : decode cX2_init 28 = .ok (.sipush 1024, 3) := dk_17 4 0 (dk_at dksX2_init_1 4 rfl rfl)
theorem dX2_init_31 : decode cX2_init 31 = .ok (.newarray .int, 2) := dk_188_10 (dk_at dksX2_init_1 7 rfl rfl)
theorem dX2_init_33 : decode cX2_init 33 = .ok (.putfield 22, 3) := dk_181 0 22 (dk_at dksX2_init_1 9 rfl rfl)
theorem dX2_init_36 : decode cX2_init 36 = .ok (.aload_n 0, 1) := dk_42 (dk_at dksX2_init_1 12 rfl rfl)
theorem dX2_init_37 : decode cX2_init 37 = .ok (.sipush 1024, 3) := dk_17 4 0 (dk_at dksX2_init_1 13 rfl rfl)
theorem dX2_init_40 : decode cX2_init 40 = .ok (.newarray .int, 2) := dk_188_10 (dk_at dksX2_init_1 16 rfl rfl)
theorem dX2_init_42 : decode cX2_init 42 = .ok (.putfield 26, 3) := dk_181 0 26 (dk_at dksX2_init_1 18 rfl rfl)
theorem dX2_init_45 : decode cX2_init 45 = .ok (.aload_n 0, 1) := dk_42 (dk_at dksX2_init_1 21 rfl rfl)
theorem dX2_init_46 : decode cX2_init 46 = .ok (.bipush 10, 2) := dk_16 10 (dk_at dksX2_init_1 22 rfl rfl)
theorem dX2_init_48 : decode cX2_init 48 = .ok (.newarray .long, 2) := dk_188_11 (dk_at dksX2_init_2 0 rfl rfl)
theorem dX2_init_50 : decode cX2_init 50 = .ok (.putfield 29, 3) := dk_181 0 29 (dk_at dksX2_init_2 2 rfl rfl)
theorem dX2_init_53 : decode cX2_init 53 = .ok (.return_, 1) := dk_177 (dk_at dksX2_init_2 5 rfl rfl)
abbrev cX2_lay : ByteArray := prog_12_method_6_code
def yX2_lay : MethodName := ⟨RX2, "lay", "()LLockRail$Night;"⟩
def dkwX2_lay_0 : List UInt8 := [42, 42, 180, 0, 3, 180, 0, 48, 180, 0, 65, 182, 0, 80, 4, 100, 182, 0, 84, 176]
abbrev dktX2_lay_0 : List UInt8 := dkwX2_lay_0 ++ []
theorem dksX2_lay_0 : cX2_lay.data.toList.drop 0 = dktX2_lay_0 := by decide +kernel
theorem dX2_lay_0 : decode cX2_lay 0 = .ok (.aload_n 0, 1) := dk_42 (dk_at dksX2_lay_0 0 rfl rfl)
theorem dX2_lay_1 : decode cX2_lay 1 = .ok (.aload_n 0, 1) := dk_42 (dk_at dksX2_lay_0 1 rfl rfl)
theorem dX2_lay_2 : decode cX2_lay 2 = .ok (.getfield 3, 3) := dk_180 0 3 (dk_at dksX2_lay_0 2 rfl rfl)
theorem dX2_lay_5 : decode cX2_lay 5 = .ok (.getfield 48, 3) := dk_180 0 48 (dk_at dksX2_lay_0 5 rfl rfl)
theorem dX2_lay_8 : decode cX2_lay 8 = .ok (.getfield 65, 3) := dk_180 0 65 (dk_at dksX2_lay_0 8 rfl rfl)
theorem dX2_lay_11 : decode cX2_lay 11 = .ok (.invokevirtual 80, 3) := dk_182 0 80 (dk_at dksX2_lay_0 11 rfl rfl)
theorem dX2_lay_14 : decode cX2_lay 14 = .ok (.iconst 1, 1) := dk_4 (dk_at dksX2_lay_0 14 rfl rfl)
theorem dX2_lay_15 : decode cX2_lay 15 = .ok (.isub, 1) := dk_100 (dk_at dksX2_lay_0 15 rfl rfl)
theorem dX2_lay_16 : decode cX2_lay 16 = .ok (.invokevirtual 84, 3) := dk_182 0 84 (dk_at dksX2_lay_0 16 rfl rfl)
theorem dX2_lay_19 : decode cX2_lay 19 = .ok (.areturn, 1) := dk_176 (dk_at dksX2_lay_0 19 rfl rfl)
abbrev cX2_lay_2 : ByteArray := prog_12_method_5_code
def yX2_lay_2 : MethodName := ⟨RX2, "lay", "(I)LLockRail$Night;"⟩
def dkwX2_lay_2_1 : List UInt8 := [182, 0, 71, 192, 0, 40, 182, 0, 77, 132, 2, 1, 167, 255, 227, 42, 176]
abbrev dktX2_lay_2_1 : List UInt8 := dkwX2_lay_2_1 ++ []
def dkwX2_lay_2_0 : List UInt8 := [42, 182, 0, 62, 3, 61, 28, 27, 163, 0, 30, 42, 42, 180, 0, 3, 180, 0, 48, 180, 0, 65, 28]
abbrev dktX2_lay_2_0 : List UInt8 := dkwX2_lay_2_0 ++ dktX2_lay_2_1
theorem dksX2_lay_2_0 : cX2_lay_2.data.toList.drop 0 = dktX2_lay_2_0 := by decide +kernel
theorem dksX2_lay_2_1 : cX2_lay_2.data.toList.drop 23 = dktX2_lay_2_1 := dk_seg dksX2_lay_2_0 23 rfl rfl
theorem dX2_lay_2_0 : decode cX2_lay_2 0 = .ok (.aload_n 0, 1) := dk_42 (dk_at dksX2_lay_2_0 0 rfl rfl)
theorem dX2_lay_2_1 : decode cX2_lay_2 1 = .ok (.invokevirtual 62, 3) := dk_182 0 62 (dk_at dksX2_lay_2_0 1 rfl rfl)
theorem dX2_lay_2_4 : decode cX2_lay_2 4 = .ok (.iconst 0, 1) := dk_3 (dk_at dksX2_lay_2_0 4 rfl rfl)
theorem dX2_lay_2_5 : decode cX2_lay_2 5 = .ok (.istore_n 2, 1) := dk_61 (dk_at dksX2_lay_2_0 5 rfl rfl)
theorem dX2_lay_2_6 : decode cX2_lay_2 6 = .ok (.iload_n 2, 1) := dk_28 (dk_at dksX2_lay_2_0 6 rfl rfl)
theorem dX2_lay_2_7 : decode cX2_lay_2 7 = .ok (.iload_n 1, 1) := dk_27 (dk_at dksX2_lay_2_0 7 rfl rfl)
theorem dX2_lay_2_8 : decode cX2_lay_2 8 = .ok (.if_icmp .gt 30, 3) := dk_163 0 30 (dk_at dksX2_lay_2_0 8 rfl rfl)
theorem dX2_lay_2_11 : decode cX2_lay_2 11 = .ok (.aload_n 0, 1) := dk_42 (dk_at dksX2_lay_2_0 11 rfl rfl)
theorem dX2_lay_2_12 : decode cX2_lay_2 12 = .ok (.aload_n 0, 1) := dk_42 (dk_at dksX2_lay_2_0 12 rfl rfl)
theorem dX2_lay_2_13 : decode cX2_lay_2 13 = .ok (.getfield 3, 3) := dk_180 0 3 (dk_at dksX2_lay_2_0 13 rfl rfl)
theorem dX2_lay_2_16 : decode cX2_lay_2 16 = .ok (.getfield 48, 3) := dk_180 0 48 (dk_at dksX2_lay_2_0 16 rfl rfl)
theorem dX2_lay_2_19 : decode cX2_lay_2 19 = .ok (.getfield 65, 3) := dk_180 0 65 (dk_at dksX2_lay_2_0 19 rfl rfl)
theorem dX2_lay_2_22 : decode cX2_lay_2 22 = .ok (.iload_n 2, 1) := dk_28 (dk_at dksX2_lay_2_0 22 rfl rfl)
theorem dX2_lay_2_23 : decode cX2_lay_2 23 = .ok (.invokevirtual 71, 3) := dk_182 0 71 (dk_at dksX2_lay_2_1 0 rfl rfl)
theorem dX2_lay_2_26 : decode cX2_lay_2 26 = .ok (.checkcast 40, 3) := dk_192 0 40 (dk_at dksX2_lay_2_1 3 rfl rfl)
theorem dX2_lay_2_29 : decode cX2_lay_2 29 = .ok (.invokevirtual 77, 3) := dk_182 0 77 (dk_at dksX2_lay_2_1 6 rfl rfl)
theorem dX2_lay_2_32 : decode cX2_lay_2 32 = .ok (.iinc 2 1, 3) := dk_132 2 1 (dk_at dksX2_lay_2_1 9 rfl rfl)
theorem dX2_lay_2_35 : decode cX2_lay_2 35 = .ok (.goto (-29), 3) := dk_167 255 227 (dk_at dksX2_lay_2_1 12 rfl rfl)
theorem dX2_lay_2_38 : decode cX2_lay_2 38 = .ok (.aload_n 0, 1) := dk_42 (dk_at dksX2_lay_2_1 15 rfl rfl)
theorem dX2_lay_2_39 : decode cX2_lay_2 39 = .ok (.areturn, 1) := dk_176 (dk_at dksX2_lay_2_1 16 rfl rfl)
abbrev cX2_begin : ByteArray := prog_12_method_4_code
def yX2_begin : MethodName := ⟨RX2, "begin", "()V"⟩
def dkwX2_begin_2 : List UInt8 := [181, 0, 36, 177]
abbrev dktX2_begin_2 : List UInt8 := dkwX2_begin_2 ++ []
def dkwX2_begin_1 : List UInt8 := [132, 1, 1, 167, 255, 233, 42, 180, 0, 15, 3, 20, 0, 60, 80, 42, 180, 0, 22, 3, 3, 79, 42, 4]
abbrev dktX2_begin_1 : List UInt8 := dkwX2_begin_1 ++ dktX2_begin_2
def dkwX2_begin_0 : List UInt8 := [3, 60, 27, 42, 180, 0, 36, 162, 0, 21, 42, 180, 0, 15, 42, 180, 0, 22, 27, 46, 9, 80]
abbrev dktX2_begin_0 : List UInt8 := dkwX2_begin_0 ++ dktX2_begin_1
theorem dksX2_begin_0 : cX2_begin.data.toList.drop 0 = dktX2_begin_0 := by decide +kernel
theorem dksX2_begin_1 : cX2_begin.data.toList.drop 22 = dktX2_begin_1 := dk_seg dksX2_begin_0 22 rfl rfl
theorem dksX2_begin_2 : cX2_begin.data.toList.drop 46 = dktX2_begin_2 := dk_seg dksX2_begin_1 24 rfl rfl
theorem dX2_begin_0 : decode cX2_begin 0 = .ok (.iconst 0, 1) := dk_3 (dk_at dksX2_begin_0 0 rfl rfl)
theorem dX2_begin_1 : decode cX2_begin 1 = .ok (.istore_n 1, 1) := dk_60 (dk_at dksX2_begin_0 1 rfl rfl)
theorem dX2_begin_2 : decode cX2_begin 2 = .ok (.iload_n 1, 1) := dk_27 (dk_at dksX2_begin_0 2 rfl rfl)
theorem dX2_begin_3 : decode cX2_begin 3 = .ok (.aload_n 0, 1) := dk_42 (dk_at dksX2_begin_0 3 rfl rfl)
theorem dX2_begin_4 : decode cX2_begin 4 = .ok (.getfield 36, 3) := dk_180 0 36 (dk_at dksX2_begin_0 4 rfl rfl)
theorem dX2_begin_7 : decode cX2_begin 7 = .ok (.if_icmp .ge 21, 3) := dk_162 0 21 (dk_at dksX2_begin_0 7 rfl rfl)
theorem dX2_begin_10 : decode cX2_begin 10 = .ok (.aload_n 0, 1) := dk_42 (dk_at dksX2_begin_0 10 rfl rfl)
theorem dX2_begin_11 : decode cX2_begin 11 = .ok (.getfield 15, 3) := dk_180 0 15 (dk_at dksX2_begin_0 11 rfl rfl)
theorem dX2_begin_14 : decode cX2_begin 14 = .ok (.aload_n 0, 1) := dk_42 (dk_at dksX2_begin_0 14 rfl rfl)
theorem dX2_begin_15 : decode cX2_begin 15 = .ok (.getfield 22, 3) := dk_180 0 22 (dk_at dksX2_begin_0 15 rfl rfl)
theorem dX2_begin_18 : decode cX2_begin 18 = .ok (.iload_n 1, 1) := dk_27 (dk_at dksX2_begin_0 18 rfl rfl)
theorem dX2_begin_19 : decode cX2_begin 19 = .ok (.iaload, 1) := dk_46 (dk_at dksX2_begin_0 19 rfl rfl)
theorem dX2_begin_20 : decode cX2_begin 20 = .ok (.lconst 0, 1) := dk_9 (dk_at dksX2_begin_0 20 rfl rfl)
theorem dX2_begin_21 : decode cX2_begin 21 = .ok (.lastore, 1) := dk_80 (dk_at dksX2_begin_0 21 rfl rfl)
theorem dX2_begin_22 : decode cX2_begin 22 = .ok (.iinc 1 1, 3) := dk_132 1 1 (dk_at dksX2_begin_1 0 rfl rfl)
theorem dX2_begin_25 : decode cX2_begin 25 = .ok (.goto (-23), 3) := dk_167 255 233 (dk_at dksX2_begin_1 3 rfl rfl)
theorem dX2_begin_28 : decode cX2_begin 28 = .ok (.aload_n 0, 1) := dk_42 (dk_at dksX2_begin_1 6 rfl rfl)
theorem dX2_begin_29 : decode cX2_begin 29 = .ok (.getfield 15, 3) := dk_180 0 15 (dk_at dksX2_begin_1 7 rfl rfl)
theorem dX2_begin_32 : decode cX2_begin 32 = .ok (.iconst 0, 1) := dk_3 (dk_at dksX2_begin_1 10 rfl rfl)
theorem dX2_begin_33 : decode cX2_begin 33 = .ok (.ldc2_w 60, 3) := dk_20 0 60 (dk_at dksX2_begin_1 11 rfl rfl)
theorem dX2_begin_36 : decode cX2_begin 36 = .ok (.lastore, 1) := dk_80 (dk_at dksX2_begin_1 14 rfl rfl)
theorem dX2_begin_37 : decode cX2_begin 37 = .ok (.aload_n 0, 1) := dk_42 (dk_at dksX2_begin_1 15 rfl rfl)
theorem dX2_begin_38 : decode cX2_begin 38 = .ok (.getfield 22, 3) := dk_180 0 22 (dk_at dksX2_begin_1 16 rfl rfl)
theorem dX2_begin_41 : decode cX2_begin 41 = .ok (.iconst 0, 1) := dk_3 (dk_at dksX2_begin_1 19 rfl rfl)
theorem dX2_begin_42 : decode cX2_begin 42 = .ok (.iconst 0, 1) := dk_3 (dk_at dksX2_begin_1 20 rfl rfl)
theorem dX2_begin_43 : decode cX2_begin 43 = .ok (.iastore, 1) := dk_79 (dk_at dksX2_begin_1 21 rfl rfl)
theorem dX2_begin_44 : decode cX2_begin 44 = .ok (.aload_n 0, 1) := dk_42 (dk_at dksX2_begin_1 22 rfl rfl)
theorem dX2_begin_45 : decode cX2_begin 45 = .ok (.iconst 1, 1) := dk_4 (dk_at dksX2_begin_1 23 rfl rfl)
theorem dX2_begin_46 : decode cX2_begin 46 = .ok (.putfield 36, 3) := dk_181 0 36 (dk_at dksX2_begin_2 0 rfl rfl)
theorem dX2_begin_49 : decode cX2_begin 49 = .ok (.return_, 1) := dk_177 (dk_at dksX2_begin_2 3 rfl rfl)
abbrev cX2_comes : ByteArray := prog_12_method_3_code
def yX2_comes : MethodName := ⟨RX2, "comes", "(LLockRail$Thief;)V"⟩
def dkwX2_comes_9 : List UInt8 := [181, 0, 22, 42, 44, 181, 0, 26, 42, 42, 180, 0, 32, 181, 0, 36, 177]
abbrev dktX2_comes_9 : List UInt8 := dkwX2_comes_9 ++ []
def dkwX2_comes_8 : List UInt8 := [180, 0, 26, 28, 46, 9, 80, 132, 2, 1, 167, 255, 211, 42, 180, 0, 22, 77, 42, 42, 180, 0, 26]
abbrev dktX2_comes_8 : List UInt8 := dkwX2_comes_8 ++ dktX2_comes_9
def dkwX2_comes_7 : List UInt8 := [42, 180, 0, 26, 28, 46, 42, 180, 0, 19, 42, 180, 0, 26, 28, 46, 47, 80, 42, 180, 0, 19, 42]
abbrev dktX2_comes_7 : List UInt8 := dkwX2_comes_7 ++ dktX2_comes_8
def dkwX2_comes_6 : List UInt8 := [101, 182, 0, 56, 132, 2, 1, 167, 255, 137, 3, 61, 28, 42, 180, 0, 32, 162, 0, 43, 42, 180, 0, 15]
abbrev dktX2_comes_6 : List UInt8 := dkwX2_comes_6 ++ dktX2_comes_7
def dkwX2_comes_5 : List UInt8 := [160, 0, 7, 29, 167, 0, 9, 29, 4, 21, 8, 120, 128, 22, 6, 182, 0, 56, 42, 29, 22, 4, 22, 6]
abbrev dktX2_comes_5 : List UInt8 := dkwX2_comes_5 ++ dktX2_comes_6
def dkwX2_comes_4 : List UInt8 := [21, 8, 2, 159, 0, 15, 42, 180, 0, 29, 21, 8, 92, 47, 22, 6, 97, 80, 42, 21, 8, 2]
abbrev dktX2_comes_4 : List UInt8 := dkwX2_comes_4 ++ dktX2_comes_5
def dkwX2_comes_3 : List UInt8 := [9, 148, 154, 0, 7, 2, 167, 0, 15, 43, 42, 180, 0, 3, 180, 0, 48, 29, 182, 0, 52, 54, 8]
abbrev dktX2_comes_3 : List UInt8 := dkwX2_comes_3 ++ dktX2_comes_4
def dkwX2_comes_2 : List UInt8 := [29, 47, 55, 4, 22, 4, 43, 180, 0, 39, 184, 0, 44, 55, 6, 42, 180, 0, 15, 29, 9, 80, 22, 6]
abbrev dktX2_comes_2 : List UInt8 := dkwX2_comes_2 ++ dktX2_comes_3
def dkwX2_comes_1 : List UInt8 := [167, 255, 240, 3, 61, 28, 42, 180, 0, 36, 162, 0, 117, 42, 180, 0, 22, 28, 46, 62, 42, 180, 0, 15]
abbrev dktX2_comes_1 : List UInt8 := dkwX2_comes_1 ++ dktX2_comes_2
def dkwX2_comes_0 : List UInt8 := [42, 3, 181, 0, 32, 3, 61, 28, 16, 10, 162, 0, 16, 42, 180, 0, 29, 28, 9, 80, 132, 2, 1]
abbrev dktX2_comes_0 : List UInt8 := dkwX2_comes_0 ++ dktX2_comes_1
theorem dksX2_comes_0 : cX2_comes.data.toList.drop 0 = dktX2_comes_0 := by decide +kernel
theorem dksX2_comes_1 : cX2_comes.data.toList.drop 23 = dktX2_comes_1 := dk_seg dksX2_comes_0 23 rfl rfl
theorem dksX2_comes_2 : cX2_comes.data.toList.drop 47 = dktX2_comes_2 := dk_seg dksX2_comes_1 24 rfl rfl
theorem dksX2_comes_3 : cX2_comes.data.toList.drop 71 = dktX2_comes_3 := dk_seg dksX2_comes_2 24 rfl rfl
theorem dksX2_comes_4 : cX2_comes.data.toList.drop 94 = dktX2_comes_4 := dk_seg dksX2_comes_3 23 rfl rfl
theorem dksX2_comes_5 : cX2_comes.data.toList.drop 116 = dktX2_comes_5 := dk_seg dksX2_comes_4 22 rfl rfl
theorem dksX2_comes_6 : cX2_comes.data.toList.drop 140 = dktX2_comes_6 := dk_seg dksX2_comes_5 24 rfl rfl
theorem dksX2_comes_7 : cX2_comes.data.toList.drop 164 = dktX2_comes_7 := dk_seg dksX2_comes_6 24 rfl rfl
theorem dksX2_comes_8 : cX2_comes.data.toList.drop 187 = dktX2_comes_8 := dk_seg dksX2_comes_7 23 rfl rfl
theorem dksX2_comes_9 : cX2_comes.data.toList.drop 210 = dktX2_comes_9 := dk_seg dksX2_comes_8 23 rfl rfl
theorem dX2_comes_0 : decode cX2_comes 0 = .ok (.aload_n 0, 1) := dk_42 (dk_at dksX2_comes_0 0 rfl rfl)
theorem dX2_comes_1 : decode cX2_comes 1 = .ok (.iconst 0, 1) := dk_3 (dk_at dksX2_comes_0 1 rfl rfl)
theorem dX2_comes_2 : decode cX2_comes 2 = .ok (.putfield 32, 3) := dk_181 0 32 (dk_at dksX2_comes_0 2 rfl rfl)
theorem dX2_comes_5 : decode cX2_comes 5 = .ok (.iconst 0, 1) := dk_3 (dk_at dksX2_comes_0 5 rfl rfl)
theorem dX2_comes_6 : decode cX2_comes 6 = .ok (.istore_n 2, 1) := dk_61 (dk_at dksX2_comes_0 6 rfl rfl)
theorem dX2_comes_7 : decode cX2_comes 7 = .ok (.iload_n 2, 1) := dk_28 (dk_at dksX2_comes_0 7 rfl rfl)
theorem dX2_comes_8 : decode cX2_comes 8 = .ok (.bipush 10, 2) := dk_16 10 (dk_at dksX2_comes_0 8 rfl rfl)
theorem dX2_comes_10 : decode cX2_comes 10 = .ok (.if_icmp .ge 16, 3) := dk_162 0 16 (dk_at dksX2_comes_0 10 rfl rfl)
theorem dX2_comes_13 : decode cX2_comes 13 = .ok (.aload_n 0, 1) := dk_42 (dk_at dksX2_comes_0 13 rfl rfl)
theorem dX2_comes_14 : decode cX2_comes 14 = .ok (.getfield 29, 3) := dk_180 0 29 (dk_at dksX2_comes_0 14 rfl rfl)
theorem dX2_comes_17 : decode cX2_comes 17 = .ok (.iload_n 2, 1) := dk_28 (dk_at dksX2_comes_0 17 rfl rfl)
theorem dX2_comes_18 : decode cX2_comes 18 = .ok (.lconst 0, 1) := dk_9 (dk_at dksX2_comes_0 18 rfl rfl)
theorem dX2_comes_19 : decode cX2_comes 19 = .ok (.lastore, 1) := dk_80 (dk_at dksX2_comes_0 19 rfl rfl)
theorem dX2_comes_20 : decode cX2_comes 20 = .ok (.iinc 2 1, 3) := dk_132 2 1 (dk_at dksX2_comes_0 20 rfl rfl)
theorem dX2_comes_23 : decode cX2_comes 23 = .ok (.goto (-16), 3) := dk_167 255 240 (dk_at dksX2_comes_1 0 rfl rfl)
theorem dX2_comes_26 : decode cX2_comes 26 = .ok (.iconst 0, 1) := dk_3 (dk_at dksX2_comes_1 3 rfl rfl)
theorem dX2_comes_27 : decode cX2_comes 27 = .ok (.istore_n 2, 1) := dk_61 (dk_at dksX2_comes_1 4 rfl rfl)
theorem dX2_comes_28 : decode cX2_comes 28 = .ok (.iload_n 2, 1) := dk_28 (dk_at dksX2_comes_1 5 rfl rfl)
theorem dX2_comes_29 : decode cX2_comes 29 = .ok (.aload_n 0, 1) := dk_42 (dk_at dksX2_comes_1 6 rfl rfl)
theorem dX2_comes_30 : decode cX2_comes 30 = .ok (.getfield 36, 3) := dk_180 0 36 (dk_at dksX2_comes_1 7 rfl rfl)
theorem dX2_comes_33 : decode cX2_comes 33 = .ok (.if_icmp .ge 117, 3) := dk_162 0 117 (dk_at dksX2_comes_1 10 rfl rfl)
theorem dX2_comes_36 : decode cX2_comes 36 = .ok (.aload_n 0, 1) := dk_42 (dk_at dksX2_comes_1 13 rfl rfl)
theorem dX2_comes_37 : decode cX2_comes 37 = .ok (.getfield 22, 3) := dk_180 0 22 (dk_at dksX2_comes_1 14 rfl rfl)
theorem dX2_comes_40 : decode cX2_comes 40 = .ok (.iload_n 2, 1) := dk_28 (dk_at dksX2_comes_1 17 rfl rfl)
theorem dX2_comes_41 : decode cX2_comes 41 = .ok (.iaload, 1) := dk_46 (dk_at dksX2_comes_1 18 rfl rfl)
theorem dX2_comes_42 : decode cX2_comes 42 = .ok (.istore_n 3, 1) := dk_62 (dk_at dksX2_comes_1 19 rfl rfl)
theorem dX2_comes_43 : decode cX2_comes 43 = .ok (.aload_n 0, 1) := dk_42 (dk_at dksX2_comes_1 20 rfl rfl)
theorem dX2_comes_44 : decode cX2_comes 44 = .ok (.getfield 15, 3) := dk_180 0 15 (dk_at dksX2_comes_1 21 rfl rfl)
theorem dX2_comes_47 : decode cX2_comes 47 = .ok (.iload_n 3, 1) := dk_29 (dk_at dksX2_comes_2 0 rfl rfl)
theorem dX2_comes_48 : decode cX2_comes 48 = .ok (.laload, 1) := dk_47 (dk_at dksX2_comes_2 1 rfl rfl)
theorem dX2_comes_49 : decode cX2_comes 49 = .ok (.lstore 4, 2) := dk_55 4 (dk_at dksX2_comes_2 2 rfl rfl)
theorem dX2_comes_51 : decode cX2_comes 51 = .ok (.lload 4, 2) := dk_22 4 (dk_at dksX2_comes_2 4 rfl rfl)
theorem dX2_comes_53 : decode cX2_comes 53 = .ok (.aload_n 1, 1) := dk_43 (dk_at dksX2_comes_2 6 rfl rfl)
theorem dX2_comes_54 : decode cX2_comes 54 = .ok (.getfield 39, 3) := dk_180 0 39 (dk_at dksX2_comes_2 7 rfl rfl)
theorem dX2_comes_57 : decode cX2_comes 57 = .ok (.invokestatic 44, 3) := dk_184 0 44 (dk_at dksX2_comes_2 10 rfl rfl)
theorem dX2_comes_60 : decode cX2_comes 60 = .ok (.lstore 6, 2) := dk_55 6 (dk_at dksX2_comes_2 13 rfl rfl)
theorem dX2_comes_62 : decode cX2_comes 62 = .ok (.aload_n 0, 1) := dk_42 (dk_at dksX2_comes_2 15 rfl rfl)
theorem dX2_comes_63 : decode cX2_comes 63 = .ok (.getfield 15, 3) := dk_180 0 15 (dk_at dksX2_comes_2 16 rfl rfl)
theorem dX2_comes_66 : decode cX2_comes 66 = .ok (.iload_n 3, 1) := dk_29 (dk_at dksX2_comes_2 19 rfl rfl)
theorem dX2_comes_67 : decode cX2_comes 67 = .ok (.lconst 0, 1) := dk_9 (dk_at dksX2_comes_2 20 rfl rfl)
theorem dX2_comes_68 : decode cX2_comes 68 = .ok (.lastore, 1) := dk_80 (dk_at dksX2_comes_2 21 rfl rfl)
theorem dX2_comes_69 : decode cX2_comes 69 = .ok (.lload 6, 2) := dk_22 6 (dk_at dksX2_comes_2 22 rfl rfl)
theorem dX2_comes_71 : decode cX2_comes 71 = .ok (.lconst 0, 1) := dk_9 (dk_at dksX2_comes_3 0 rfl rfl)
theorem dX2_comes_72 : decode cX2_comes 72 = .ok (.lcmp, 1) := dk_148 (dk_at dksX2_comes_3 1 rfl rfl)
theorem dX2_comes_73 : decode cX2_comes 73 = .ok (.ifCond .ne 7, 3) := dk_154 0 7 (dk_at dksX2_comes_3 2 rfl rfl)
theorem dX2_comes_76 : decode cX2_comes 76 = .ok (.iconst (-1), 1) := dk_2 (dk_at dksX2_comes_3 5 rfl rfl)
theorem dX2_comes_77 : decode cX2_comes 77 = .ok (.goto 15, 3) := dk_167 0 15 (dk_at dksX2_comes_3 6 rfl rfl)
theorem dX2_comes_80 : decode cX2_comes 80 = .ok (.aload_n 1, 1) := dk_43 (dk_at dksX2_comes_3 9 rfl rfl)
theorem dX2_comes_81 : decode cX2_comes 81 = .ok (.aload_n 0, 1) := dk_42 (dk_at dksX2_comes_3 10 rfl rfl)
theorem dX2_comes_82 : decode cX2_comes 82 = .ok (.getfield 3, 3) := dk_180 0 3 (dk_at dksX2_comes_3 11 rfl rfl)
theorem dX2_comes_85 : decode cX2_comes 85 = .ok (.getfield 48, 3) := dk_180 0 48 (dk_at dksX2_comes_3 14 rfl rfl)
theorem dX2_comes_88 : decode cX2_comes 88 = .ok (.iload_n 3, 1) := dk_29 (dk_at dksX2_comes_3 17 rfl rfl)
theorem dX2_comes_89 : decode cX2_comes 89 = .ok (.invokevirtual 52, 3) := dk_182 0 52 (dk_at dksX2_comes_3 18 rfl rfl)
theorem dX2_comes_92 : decode cX2_comes 92 = .ok (.istore 8, 2) := dk_54 8 (dk_at dksX2_comes_3 21 rfl rfl)
theorem dX2_comes_94 : decode cX2_comes 94 = .ok (.iload 8, 2) := dk_21 8 (dk_at dksX2_comes_4 0 rfl rfl)
theorem dX2_comes_96 : decode cX2_comes 96 = .ok (.iconst (-1), 1) := dk_2 (dk_at dksX2_comes_4 2 rfl rfl)
theorem dX2_comes_97 : decode cX2_comes 97 = .ok (.if_icmp .eq 15, 3) := dk_159 0 15 (dk_at dksX2_comes_4 3 rfl rfl)
theorem dX2_comes_100 : decode cX2_comes 100 = .ok (.aload_n 0, 1) := dk_42 (dk_at dksX2_comes_4 6 rfl rfl)
theorem dX2_comes_101 : decode cX2_comes 101 = .ok (.getfield 29, 3) := dk_180 0 29 (dk_at dksX2_comes_4 7 rfl rfl)
theorem dX2_comes_104 : decode cX2_comes 104 = .ok (.iload 8, 2) := dk_21 8 (dk_at dksX2_comes_4 10 rfl rfl)
theorem dX2_comes_106 : decode cX2_comes 106 = .ok (.dup2, 1) := dk_92 (dk_at dksX2_comes_4 12 rfl rfl)
theorem dX2_comes_107 : decode cX2_comes 107 = .ok (.laload, 1) := dk_47 (dk_at dksX2_comes_4 13 rfl rfl)
theorem dX2_comes_108 : decode cX2_comes 108 = .ok (.lload 6, 2) := dk_22 6 (dk_at dksX2_comes_4 14 rfl rfl)
theorem dX2_comes_110 : decode cX2_comes 110 = .ok (.ladd, 1) := dk_97 (dk_at dksX2_comes_4 16 rfl rfl)
theorem dX2_comes_111 : decode cX2_comes 111 = .ok (.lastore, 1) := dk_80 (dk_at dksX2_comes_4 17 rfl rfl)
theorem dX2_comes_112 : decode cX2_comes 112 = .ok (.aload_n 0, 1) := dk_42 (dk_at dksX2_comes_4 18 rfl rfl)
theorem dX2_comes_113 : decode cX2_comes 113 = .ok (.iload 8, 2) := dk_21 8 (dk_at dksX2_comes_4 19 rfl rfl)
theorem dX2_comes_115 : decode cX2_comes 115 = .ok (.iconst (-1), 1) := dk_2 (dk_at dksX2_comes_4 21 rfl rfl)
theorem dX2_comes_116 : decode cX2_comes 116 = .ok (.if_icmp .ne 7, 3) := dk_160 0 7 (dk_at dksX2_comes_5 0 rfl rfl)
theorem dX2_comes_119 : decode cX2_comes 119 = .ok (.iload_n 3, 1) := dk_29 (dk_at dksX2_comes_5 3 rfl rfl)
theorem dX2_comes_120 : decode cX2_comes 120 = .ok (.goto 9, 3) := dk_167 0 9 (dk_at dksX2_comes_5 4 rfl rfl)
theorem dX2_comes_123 : decode cX2_comes 123 = .ok (.iload_n 3, 1) := dk_29 (dk_at dksX2_comes_5 7 rfl rfl)
theorem dX2_comes_124 : decode cX2_comes 124 = .ok (.iconst 1, 1) := dk_4 (dk_at dksX2_comes_5 8 rfl rfl)
theorem dX2_comes_125 : decode cX2_comes 125 = .ok (.iload 8, 2) := dk_21 8 (dk_at dksX2_comes_5 9 rfl rfl)
theorem dX2_comes_127 : decode cX2_comes 127 = .ok (.ishl, 1) := dk_120 (dk_at dksX2_comes_5 11 rfl rfl)
theorem dX2_comes_128 : decode cX2_comes 128 = .ok (.ior, 1) := dk_128 (dk_at dksX2_comes_5 12 rfl rfl)
theorem dX2_comes_129 : decode cX2_comes 129 = .ok (.lload 6, 2) := dk_22 6 (dk_at dksX2_comes_5 13 rfl rfl)
theorem dX2_comes_131 : decode cX2_comes 131 = .ok (.invokevirtual 56, 3) := dk_182 0 56 (dk_at dksX2_comes_5 15 rfl rfl)
theorem dX2_comes_134 : decode cX2_comes 134 = .ok (.aload_n 0, 1) := dk_42 (dk_at dksX2_comes_5 18 rfl rfl)
theorem dX2_comes_135 : decode cX2_comes 135 = .ok (.iload_n 3, 1) := dk_29 (dk_at dksX2_comes_5 19 rfl rfl)
theorem dX2_comes_136 : decode cX2_comes 136 = .ok (.lload 4, 2) := dk_22 4 (dk_at dksX2_comes_5 20 rfl rfl)
theorem dX2_comes_138 : decode cX2_comes 138 = .ok (.lload 6, 2) := dk_22 6 (dk_at dksX2_comes_5 22 rfl rfl)
theorem dX2_comes_140 : decode cX2_comes 140 = .ok (.lsub, 1) := dk_101 (dk_at dksX2_comes_6 0 rfl rfl)
theorem dX2_comes_141 : decode cX2_comes 141 = .ok (.invokevirtual 56, 3) := dk_182 0 56 (dk_at dksX2_comes_6 1 rfl rfl)
theorem dX2_comes_144 : decode cX2_comes 144 = .ok (.iinc 2 1, 3) := dk_132 2 1 (dk_at dksX2_comes_6 4 rfl rfl)
theorem dX2_comes_147 : decode cX2_comes 147 = .ok (.goto (-119), 3) := dk_167 255 137 (dk_at dksX2_comes_6 7 rfl rfl)
theorem dX2_comes_150 : decode cX2_comes 150 = .ok (.iconst 0, 1) := dk_3 (dk_at dksX2_comes_6 10 rfl rfl)
theorem dX2_comes_151 : decode cX2_comes 151 = .ok (.istore_n 2, 1) := dk_61 (dk_at dksX2_comes_6 11 rfl rfl)
theorem dX2_comes_152 : decode cX2_comes 152 = .ok (.iload_n 2, 1) := dk_28 (dk_at dksX2_comes_6 12 rfl rfl)
theorem dX2_comes_153 : decode cX2_comes 153 = .ok (.aload_n 0, 1) := dk_42 (dk_at dksX2_comes_6 13 rfl rfl)
theorem dX2_comes_154 : decode cX2_comes 154 = .ok (.getfield 32, 3) := dk_180 0 32 (dk_at dksX2_comes_6 14 rfl rfl)
theorem dX2_comes_157 : decode cX2_comes 157 = .ok (.if_icmp .ge 43, 3) := dk_162 0 43 (dk_at dksX2_comes_6 17 rfl rfl)
theorem dX2_comes_160 : decode cX2_comes 160 = .ok (.aload_n 0, 1) := dk_42 (dk_at dksX2_comes_6 20 rfl rfl)
theorem dX2_comes_161 : decode cX2_comes 161 = .ok (.getfield 15, 3) := dk_180 0 15 (dk_at dksX2_comes_6 21 rfl rfl)
theorem dX2_comes_164 : decode cX2_comes 164 = .ok (.aload_n 0, 1) := dk_42 (dk_at dksX2_comes_7 0 rfl rfl)
theorem dX2_comes_165 : decode cX2_comes 165 = .ok (.getfield 26, 3) := dk_180 0 26 (dk_at dksX2_comes_7 1 rfl rfl)
theorem dX2_comes_168 : decode cX2_comes 168 = .ok (.iload_n 2, 1) := dk_28 (dk_at dksX2_comes_7 4 rfl rfl)
theorem dX2_comes_169 : decode cX2_comes 169 = .ok (.iaload, 1) := dk_46 (dk_at dksX2_comes_7 5 rfl rfl)
theorem dX2_comes_170 : decode cX2_comes 170 = .ok (.aload_n 0, 1) := dk_42 (dk_at dksX2_comes_7 6 rfl rfl)
theorem dX2_comes_171 : decode cX2_comes 171 = .ok (.getfield 19, 3) := dk_180 0 19 (dk_at dksX2_comes_7 7 rfl rfl)
theorem dX2_comes_174 : decode cX2_comes 174 = .ok (.aload_n 0, 1) := dk_42 (dk_at dksX2_comes_7 10 rfl rfl)
theorem dX2_comes_175 : decode cX2_comes 175 = .ok (.getfield 26, 3) := dk_180 0 26 (dk_at dksX2_comes_7 11 rfl rfl)
theorem dX2_comes_178 : decode cX2_comes 178 = .ok (.iload_n 2, 1) := dk_28 (dk_at dksX2_comes_7 14 rfl rfl)
theorem dX2_comes_179 : decode cX2_comes 179 = .ok (.iaload, 1) := dk_46 (dk_at dksX2_comes_7 15 rfl rfl)
theorem dX2_comes_180 : decode cX2_comes 180 = .ok (.laload, 1) := dk_47 (dk_at dksX2_comes_7 16 rfl rfl)
theorem dX2_comes_181 : decode cX2_comes 181 = .ok (.lastore, 1) := dk_80 (dk_at dksX2_comes_7 17 rfl rfl)
theorem dX2_comes_182 : decode cX2_comes 182 = .ok (.aload_n 0, 1) := dk_42 (dk_at dksX2_comes_7 18 rfl rfl)
theorem dX2_comes_183 : decode cX2_comes 183 = .ok (.getfield 19, 3) := dk_180 0 19 (dk_at dksX2_comes_7 19 rfl rfl)
theorem dX2_comes_186 : decode cX2_comes 186 = .ok (.aload_n 0, 1) := dk_42 (dk_at dksX2_comes_7 22 rfl rfl)
theorem dX2_comes_187 : decode cX2_comes 187 = .ok (.getfield 26, 3) := dk_180 0 26 (dk_at dksX2_comes_8 0 rfl rfl)
theorem dX2_comes_190 : decode cX2_comes 190 = .ok (.iload_n 2, 1) := dk_28 (dk_at dksX2_comes_8 3 rfl rfl)
theorem dX2_comes_191 : decode cX2_comes 191 = .ok (.iaload, 1) := dk_46 (dk_at dksX2_comes_8 4 rfl rfl)
theorem dX2_comes_192 : decode cX2_comes 192 = .ok (.lconst 0, 1) := dk_9 (dk_at dksX2_comes_8 5 rfl rfl)
theorem dX2_comes_193 : decode cX2_comes 193 = .ok (.lastore, 1) := dk_80 (dk_at dksX2_comes_8 6 rfl rfl)
theorem dX2_comes_194 : decode cX2_comes 194 = .ok (.iinc 2 1, 3) := dk_132 2 1 (dk_at dksX2_comes_8 7 rfl rfl)
theorem dX2_comes_197 : decode cX2_comes 197 = .ok (.goto (-45), 3) := dk_167 255 211 (dk_at dksX2_comes_8 10 rfl rfl)
theorem dX2_comes_200 : decode cX2_comes 200 = .ok (.aload_n 0, 1) := dk_42 (dk_at dksX2_comes_8 13 rfl rfl)
theorem dX2_comes_201 : decode cX2_comes 201 = .ok (.getfield 22, 3) := dk_180 0 22 (dk_at dksX2_comes_8 14 rfl rfl)
theorem dX2_comes_204 : decode cX2_comes 204 = .ok (.astore_n 2, 1) := dk_77 (dk_at dksX2_comes_8 17 rfl rfl)
theorem dX2_comes_205 : decode cX2_comes 205 = .ok (.aload_n 0, 1) := dk_42 (dk_at dksX2_comes_8 18 rfl rfl)
theorem dX2_comes_206 : decode cX2_comes 206 = .ok (.aload_n 0, 1) := dk_42 (dk_at dksX2_comes_8 19 rfl rfl)
theorem dX2_comes_207 : decode cX2_comes 207 = .ok (.getfield 26, 3) := dk_180 0 26 (dk_at dksX2_comes_8 20 rfl rfl)
theorem dX2_comes_210 : decode cX2_comes 210 = .ok (.putfield 22, 3) := dk_181 0 22 (dk_at dksX2_comes_9 0 rfl rfl)
theorem dX2_comes_213 : decode cX2_comes 213 = .ok (.aload_n 0, 1) := dk_42 (dk_at dksX2_comes_9 3 rfl rfl)
theorem dX2_comes_214 : decode cX2_comes 214 = .ok (.aload_n 2, 1) := dk_44 (dk_at dksX2_comes_9 4 rfl rfl)
theorem dX2_comes_215 : decode cX2_comes 215 = .ok (.putfield 26, 3) := dk_181 0 26 (dk_at dksX2_comes_9 5 rfl rfl)
theorem dX2_comes_218 : decode cX2_comes 218 = .ok (.aload_n 0, 1) := dk_42 (dk_at dksX2_comes_9 8 rfl rfl)
theorem dX2_comes_219 : decode cX2_comes 219 = .ok (.aload_n 0, 1) := dk_42 (dk_at dksX2_comes_9 9 rfl rfl)
theorem dX2_comes_220 : decode cX2_comes 220 = .ok (.getfield 32, 3) := dk_180 0 32 (dk_at dksX2_comes_9 10 rfl rfl)
theorem dX2_comes_223 : decode cX2_comes 223 = .ok (.putfield 36, 3) := dk_181 0 36 (dk_at dksX2_comes_9 13 rfl rfl)
theorem dX2_comes_226 : decode cX2_comes 226 = .ok (.return_, 1) := dk_177 (dk_at dksX2_comes_9 16 rfl rfl)
abbrev cX2_puts : ByteArray := prog_12_method_2_code
def yX2_puts : MethodName := ⟨RX2, "puts", "(IJ)V"⟩
def dkwX2_puts_2 : List UInt8 := [80, 177]
abbrev dktX2_puts_2 : List UInt8 := dkwX2_puts_2 ++ []
def dkwX2_puts_1 : List UInt8 := [180, 0, 32, 27, 79, 42, 89, 180, 0, 32, 4, 96, 181, 0, 32, 42, 180, 0, 19, 27, 92, 47, 32, 97]
abbrev dktX2_puts_1 : List UInt8 := dkwX2_puts_1 ++ dktX2_puts_2
def dkwX2_puts_0 : List UInt8 := [32, 9, 148, 154, 0, 4, 177, 42, 180, 0, 19, 27, 47, 9, 148, 154, 0, 23, 42, 180, 0, 26, 42]
abbrev dktX2_puts_0 : List UInt8 := dkwX2_puts_0 ++ dktX2_puts_1
theorem dksX2_puts_0 : cX2_puts.data.toList.drop 0 = dktX2_puts_0 := by decide +kernel
theorem dksX2_puts_1 : cX2_puts.data.toList.drop 23 = dktX2_puts_1 := dk_seg dksX2_puts_0 23 rfl rfl
theorem dksX2_puts_2 : cX2_puts.data.toList.drop 47 = dktX2_puts_2 := dk_seg dksX2_puts_1 24 rfl rfl
theorem dX2_puts_0 : decode cX2_puts 0 = .ok (.lload_n 2, 1) := dk_32 (dk_at dksX2_puts_0 0 rfl rfl)
theorem dX2_puts_1 : decode cX2_puts 1 = .ok (.lconst 0, 1) := dk_9 (dk_at dksX2_puts_0 1 rfl rfl)
theorem dX2_puts_2 : decode cX2_puts 2 = .ok (.lcmp, 1) := dk_148 (dk_at dksX2_puts_0 2 rfl rfl)
theorem dX2_puts_3 : decode cX2_puts 3 = .ok (.ifCond .ne 4, 3) := dk_154 0 4 (dk_at dksX2_puts_0 3 rfl rfl)
theorem dX2_puts_6 : decode cX2_puts 6 = .ok (.return_, 1) := dk_177 (dk_at dksX2_puts_0 6 rfl rfl)
theorem dX2_puts_7 : decode cX2_puts 7 = .ok (.aload_n 0, 1) := dk_42 (dk_at dksX2_puts_0 7 rfl rfl)
theorem dX2_puts_8 : decode cX2_puts 8 = .ok (.getfield 19, 3) := dk_180 0 19 (dk_at dksX2_puts_0 8 rfl rfl)
theorem dX2_puts_11 : decode cX2_puts 11 = .ok (.iload_n 1, 1) := dk_27 (dk_at dksX2_puts_0 11 rfl rfl)
theorem dX2_puts_12 : decode cX2_puts 12 = .ok (.laload, 1) := dk_47 (dk_at dksX2_puts_0 12 rfl rfl)
theorem dX2_puts_13 : decode cX2_puts 13 = .ok (.lconst 0, 1) := dk_9 (dk_at dksX2_puts_0 13 rfl rfl)
theorem dX2_puts_14 : decode cX2_puts 14 = .ok (.lcmp, 1) := dk_148 (dk_at dksX2_puts_0 14 rfl rfl)
theorem dX2_puts_15 : decode cX2_puts 15 = .ok (.ifCond .ne 23, 3) := dk_154 0 23 (dk_at dksX2_puts_0 15 rfl rfl)
theorem dX2_puts_18 : decode cX2_puts 18 = .ok (.aload_n 0, 1) := dk_42 (dk_at dksX2_puts_0 18 rfl rfl)
theorem dX2_puts_19 : decode cX2_puts 19 = .ok (.getfield 26, 3) := dk_180 0 26 (dk_at dksX2_puts_0 19 rfl rfl)
theorem dX2_puts_22 : decode cX2_puts 22 = .ok (.aload_n 0, 1) := dk_42 (dk_at dksX2_puts_0 22 rfl rfl)
theorem dX2_puts_23 : decode cX2_puts 23 = .ok (.getfield 32, 3) := dk_180 0 32 (dk_at dksX2_puts_1 0 rfl rfl)
theorem dX2_puts_26 : decode cX2_puts 26 = .ok (.iload_n 1, 1) := dk_27 (dk_at dksX2_puts_1 3 rfl rfl)
theorem dX2_puts_27 : decode cX2_puts 27 = .ok (.iastore, 1) := dk_79 (dk_at dksX2_puts_1 4 rfl rfl)
theorem dX2_puts_28 : decode cX2_puts 28 = .ok (.aload_n 0, 1) := dk_42 (dk_at dksX2_puts_1 5 rfl rfl)
theorem dX2_puts_29 : decode cX2_puts 29 = .ok (.dup, 1) := dk_89 (dk_at dksX2_puts_1 6 rfl rfl)
theorem dX2_puts_30 : decode cX2_puts 30 = .ok (.getfield 32, 3) := dk_180 0 32 (dk_at dksX2_puts_1 7 rfl rfl)
theorem dX2_puts_33 : decode cX2_puts 33 = .ok (.iconst 1, 1) := dk_4 (dk_at dksX2_puts_1 10 rfl rfl)
theorem dX2_puts_34 : decode cX2_puts 34 = .ok (.iadd, 1) := dk_96 (dk_at dksX2_puts_1 11 rfl rfl)
theorem dX2_puts_35 : decode cX2_puts 35 = .ok (.putfield 32, 3) := dk_181 0 32 (dk_at dksX2_puts_1 12 rfl rfl)
theorem dX2_puts_38 : decode cX2_puts 38 = .ok (.aload_n 0, 1) := dk_42 (dk_at dksX2_puts_1 15 rfl rfl)
theorem dX2_puts_39 : decode cX2_puts 39 = .ok (.getfield 19, 3) := dk_180 0 19 (dk_at dksX2_puts_1 16 rfl rfl)
theorem dX2_puts_42 : decode cX2_puts 42 = .ok (.iload_n 1, 1) := dk_27 (dk_at dksX2_puts_1 19 rfl rfl)
theorem dX2_puts_43 : decode cX2_puts 43 = .ok (.dup2, 1) := dk_92 (dk_at dksX2_puts_1 20 rfl rfl)
theorem dX2_puts_44 : decode cX2_puts 44 = .ok (.laload, 1) := dk_47 (dk_at dksX2_puts_1 21 rfl rfl)
theorem dX2_puts_45 : decode cX2_puts 45 = .ok (.lload_n 2, 1) := dk_32 (dk_at dksX2_puts_1 22 rfl rfl)
theorem dX2_puts_46 : decode cX2_puts 46 = .ok (.ladd, 1) := dk_97 (dk_at dksX2_puts_1 23 rfl rfl)
theorem dX2_puts_47 : decode cX2_puts 47 = .ok (.lastore, 1) := dk_80 (dk_at dksX2_puts_2 0 rfl rfl)
theorem dX2_puts_48 : decode cX2_puts 48 = .ok (.return_, 1) := dk_177 (dk_at dksX2_puts_2 1 rfl rfl)
abbrev cX2_risk : ByteArray := prog_12_method_7_code
def yX2_risk : MethodName := ⟨RX2, "risk", "(I)J"⟩
def dkwX2_risk_2 : List UInt8 := [167, 255, 215, 32, 173]
abbrev dktX2_risk_2 : List UInt8 := dkwX2_risk_2 ++ []
def dkwX2_risk_1 : List UInt8 := [184, 0, 88, 153, 0, 18, 32, 42, 180, 0, 15, 42, 180, 0, 22, 21, 4, 46, 47, 97, 65, 132, 4, 1]
abbrev dktX2_risk_1 : List UInt8 := dkwX2_risk_1 ++ dktX2_risk_2
def dkwX2_risk_0 : List UInt8 := [9, 65, 3, 54, 4, 21, 4, 42, 180, 0, 36, 162, 0, 38, 42, 180, 0, 22, 21, 4, 46, 27]
abbrev dktX2_risk_0 : List UInt8 := dkwX2_risk_0 ++ dktX2_risk_1
theorem dksX2_risk_0 : cX2_risk.data.toList.drop 0 = dktX2_risk_0 := by decide +kernel
theorem dksX2_risk_1 : cX2_risk.data.toList.drop 22 = dktX2_risk_1 := dk_seg dksX2_risk_0 22 rfl rfl
theorem dksX2_risk_2 : cX2_risk.data.toList.drop 46 = dktX2_risk_2 := dk_seg dksX2_risk_1 24 rfl rfl
theorem dX2_risk_0 : decode cX2_risk 0 = .ok (.lconst 0, 1) := dk_9 (dk_at dksX2_risk_0 0 rfl rfl)
theorem dX2_risk_1 : decode cX2_risk 1 = .ok (.lstore_n 2, 1) := dk_65 (dk_at dksX2_risk_0 1 rfl rfl)
theorem dX2_risk_2 : decode cX2_risk 2 = .ok (.iconst 0, 1) := dk_3 (dk_at dksX2_risk_0 2 rfl rfl)
theorem dX2_risk_3 : decode cX2_risk 3 = .ok (.istore 4, 2) := dk_54 4 (dk_at dksX2_risk_0 3 rfl rfl)
theorem dX2_risk_5 : decode cX2_risk 5 = .ok (.iload 4, 2) := dk_21 4 (dk_at dksX2_risk_0 5 rfl rfl)
theorem dX2_risk_7 : decode cX2_risk 7 = .ok (.aload_n 0, 1) := dk_42 (dk_at dksX2_risk_0 7 rfl rfl)
theorem dX2_risk_8 : decode cX2_risk 8 = .ok (.getfield 36, 3) := dk_180 0 36 (dk_at dksX2_risk_0 8 rfl rfl)
theorem dX2_risk_11 : decode cX2_risk 11 = .ok (.if_icmp .ge 38, 3) := dk_162 0 38 (dk_at dksX2_risk_0 11 rfl rfl)
theorem dX2_risk_14 : decode cX2_risk 14 = .ok (.aload_n 0, 1) := dk_42 (dk_at dksX2_risk_0 14 rfl rfl)
theorem dX2_risk_15 : decode cX2_risk 15 = .ok (.getfield 22, 3) := dk_180 0 22 (dk_at dksX2_risk_0 15 rfl rfl)
theorem dX2_risk_18 : decode cX2_risk 18 = .ok (.iload 4, 2) := dk_21 4 (dk_at dksX2_risk_0 18 rfl rfl)
theorem dX2_risk_20 : decode cX2_risk 20 = .ok (.iaload, 1) := dk_46 (dk_at dksX2_risk_0 20 rfl rfl)
theorem dX2_risk_21 : decode cX2_risk 21 = .ok (.iload_n 1, 1) := dk_27 (dk_at dksX2_risk_0 21 rfl rfl)
theorem dX2_risk_22 : decode cX2_risk 22 = .ok (.invokestatic 88, 3) := dk_184 0 88 (dk_at dksX2_risk_1 0 rfl rfl)
theorem dX2_risk_25 : decode cX2_risk 25 = .ok (.ifCond .eq 18, 3) := dk_153 0 18 (dk_at dksX2_risk_1 3 rfl rfl)
theorem dX2_risk_28 : decode cX2_risk 28 = .ok (.lload_n 2, 1) := dk_32 (dk_at dksX2_risk_1 6 rfl rfl)
theorem dX2_risk_29 : decode cX2_risk 29 = .ok (.aload_n 0, 1) := dk_42 (dk_at dksX2_risk_1 7 rfl rfl)
theorem dX2_risk_30 : decode cX2_risk 30 = .ok (.getfield 15, 3) := dk_180 0 15 (dk_at dksX2_risk_1 8 rfl rfl)
theorem dX2_risk_33 : decode cX2_risk 33 = .ok (.aload_n 0, 1) := dk_42 (dk_at dksX2_risk_1 11 rfl rfl)
theorem dX2_risk_34 : decode cX2_risk 34 = .ok (.getfield 22, 3) := dk_180 0 22 (dk_at dksX2_risk_1 12 rfl rfl)
theorem dX2_risk_37 : decode cX2_risk 37 = .ok (.iload 4, 2) := dk_21 4 (dk_at dksX2_risk_1 15 rfl rfl)
theorem dX2_risk_39 : decode cX2_risk 39 = .ok (.iaload, 1) := dk_46 (dk_at dksX2_risk_1 17 rfl rfl)
theorem dX2_risk_40 : decode cX2_risk 40 = .ok (.laload, 1) := dk_47 (dk_at dksX2_risk_1 18 rfl rfl)
theorem dX2_risk_41 : decode cX2_risk 41 = .ok (.ladd, 1) := dk_97 (dk_at dksX2_risk_1 19 rfl rfl)
theorem dX2_risk_42 : decode cX2_risk 42 = .ok (.lstore_n 2, 1) := dk_65 (dk_at dksX2_risk_1 20 rfl rfl)
theorem dX2_risk_43 : decode cX2_risk 43 = .ok (.iinc 4 1, 3) := dk_132 4 1 (dk_at dksX2_risk_1 21 rfl rfl)
theorem dX2_risk_46 : decode cX2_risk 46 = .ok (.goto (-41), 3) := dk_167 255 215 (dk_at dksX2_risk_2 0 rfl rfl)
theorem dX2_risk_49 : decode cX2_risk 49 = .ok (.lload_n 2, 1) := dk_32 (dk_at dksX2_risk_2 3 rfl rfl)
theorem dX2_risk_50 : decode cX2_risk 50 = .ok (.lreturn, 1) := dk_173 (dk_at dksX2_risk_2 4 rfl rfl)
abbrev cX2_loss : ByteArray := prog_12_method_8_code
def yX2_loss : MethodName := ⟨RX2, "loss", "(I)J"⟩
def dkwX2_loss_1 : List UInt8 := [180, 0, 99, 27, 182, 0, 71, 192, 0, 102, 180, 0, 104, 133, 105, 20, 0, 107, 109, 173]
abbrev dktX2_loss_1 : List UInt8 := dkwX2_loss_1 ++ []
def dkwX2_loss_0 : List UInt8 := [42, 180, 0, 3, 180, 0, 48, 180, 0, 92, 133, 42, 27, 182, 0, 95, 105, 42, 180, 0, 3, 180, 0, 48]
abbrev dktX2_loss_0 : List UInt8 := dkwX2_loss_0 ++ dktX2_loss_1
theorem dksX2_loss_0 : cX2_loss.data.toList.drop 0 = dktX2_loss_0 := by decide +kernel
theorem dksX2_loss_1 : cX2_loss.data.toList.drop 24 = dktX2_loss_1 := dk_seg dksX2_loss_0 24 rfl rfl
theorem dX2_loss_0 : decode cX2_loss 0 = .ok (.aload_n 0, 1) := dk_42 (dk_at dksX2_loss_0 0 rfl rfl)
theorem dX2_loss_1 : decode cX2_loss 1 = .ok (.getfield 3, 3) := dk_180 0 3 (dk_at dksX2_loss_0 1 rfl rfl)
theorem dX2_loss_4 : decode cX2_loss 4 = .ok (.getfield 48, 3) := dk_180 0 48 (dk_at dksX2_loss_0 4 rfl rfl)
theorem dX2_loss_7 : decode cX2_loss 7 = .ok (.getfield 92, 3) := dk_180 0 92 (dk_at dksX2_loss_0 7 rfl rfl)
theorem dX2_loss_10 : decode cX2_loss 10 = .ok (.i2l, 1) := dk_133 (dk_at dksX2_loss_0 10 rfl rfl)
theorem dX2_loss_11 : decode cX2_loss 11 = .ok (.aload_n 0, 1) := dk_42 (dk_at dksX2_loss_0 11 rfl rfl)
theorem dX2_loss_12 : decode cX2_loss 12 = .ok (.iload_n 1, 1) := dk_27 (dk_at dksX2_loss_0 12 rfl rfl)
theorem dX2_loss_13 : decode cX2_loss 13 = .ok (.invokevirtual 95, 3) := dk_182 0 95 (dk_at dksX2_loss_0 13 rfl rfl)
theorem dX2_loss_16 : decode cX2_loss 16 = .ok (.lmul, 1) := dk_105 (dk_at dksX2_loss_0 16 rfl rfl)
theorem dX2_loss_17 : decode cX2_loss 17 = .ok (.aload_n 0, 1) := dk_42 (dk_at dksX2_loss_0 17 rfl rfl)
theorem dX2_loss_18 : decode cX2_loss 18 = .ok (.getfield 3, 3) := dk_180 0 3 (dk_at dksX2_loss_0 18 rfl rfl)
theorem dX2_loss_21 : decode cX2_loss 21 = .ok (.getfield 48, 3) := dk_180 0 48 (dk_at dksX2_loss_0 21 rfl rfl)
theorem dX2_loss_24 : decode cX2_loss 24 = .ok (.getfield 99, 3) := dk_180 0 99 (dk_at dksX2_loss_1 0 rfl rfl)
theorem dX2_loss_27 : decode cX2_loss 27 = .ok (.iload_n 1, 1) := dk_27 (dk_at dksX2_loss_1 3 rfl rfl)
theorem dX2_loss_28 : decode cX2_loss 28 = .ok (.invokevirtual 71, 3) := dk_182 0 71 (dk_at dksX2_loss_1 4 rfl rfl)
theorem dX2_loss_31 : decode cX2_loss 31 = .ok (.checkcast 102, 3) := dk_192 0 102 (dk_at dksX2_loss_1 7 rfl rfl)
theorem dX2_loss_34 : decode cX2_loss 34 = .ok (.getfield 104, 3) := dk_180 0 104 (dk_at dksX2_loss_1 10 rfl rfl)
theorem dX2_loss_37 : decode cX2_loss 37 = .ok (.i2l, 1) := dk_133 (dk_at dksX2_loss_1 13 rfl rfl)
theorem dX2_loss_38 : decode cX2_loss 38 = .ok (.lmul, 1) := dk_105 (dk_at dksX2_loss_1 14 rfl rfl)
theorem dX2_loss_39 : decode cX2_loss 39 = .ok (.ldc2_w 107, 3) := dk_20 0 107 (dk_at dksX2_loss_1 15 rfl rfl)
theorem dX2_loss_42 : decode cX2_loss 42 = .ok (.ldiv, 1) := dk_109 (dk_at dksX2_loss_1 18 rfl rfl)
theorem dX2_loss_43 : decode cX2_loss 43 = .ok (.lreturn, 1) := dk_173 (dk_at dksX2_loss_1 19 rfl rfl)
theorem q145 : (Jvm.Cond.initialized "LockRail$Night") ∈ lw_all := lw_g (lw_at lw_m1 6 rfl) rfl
theorem q229 : (Jvm.Cond.fieldLinkNest "LockRail$Night" (92 : Nat) "LockRail$Rail" "nights" "I" "LockRail") ∈ lw_tbl := lw_at lw_m1 90 rfl
theorem q261 : (Jvm.Cond.fieldLinkNest "LockRail$Night" (99 : Nat) "LockRail$Rail" "bikes" "Ljava/util/ArrayList;" "LockRail") ∈ lw_tbl := lw_at lw_m1 122 rfl
theorem q267 : (Jvm.Cond.fieldLinkNest "LockRail$Night" (65 : Nat) "LockRail$Rail" "thieves" "Ljava/util/ArrayList;" "LockRail") ∈ lw_tbl := lw_at lw_m1 128 rfl
theorem q314 : (Jvm.Cond.instantiable "LockRail$Night" (8 : Nat)) ∈ lw_all := lw_g (lw_at lw_m1 175 rfl) rfl
theorem q316 : (Jvm.Cond.instanceMethod ({ cls := "LockRail$Night", name := "<init>", desc := "(LLockRail;)V" } : Jvm.MethodName)) ∈ lw_all := lw_g (lw_at lw_m1 177 rfl) rfl
theorem q317 : (Jvm.Cond.code ({ cls := "LockRail$Night", name := "<init>", desc := "(LLockRail;)V" } : Jvm.MethodName) prog_12_method_1_code (2 : Nat) (Option.none : Option Jvm.ClassFile.FieldType)) ∈ lw_all := lw_g (lw_at lw_m1 178 rfl) rfl
theorem q318 : (Jvm.Cond.methodLink "LockRail$Night" (9 : Nat) ({ cls := "java/lang/Object", name := "<init>", desc := "()V" } : Jvm.MethodName)) ∈ lw_all := lw_g (lw_at lw_m1 179 rfl) rfl
theorem q319 : (Jvm.Cond.fieldLink "LockRail$Night" (15 : Nat) "LockRail$Night" "parts" "[J") ∈ lw_all := lw_g (lw_at lw_m1 180 rfl) rfl
theorem q321 : (Jvm.Cond.fieldLink "LockRail$Night" (19 : Nat) "LockRail$Night" "then" "[J") ∈ lw_all := lw_g (lw_at lw_m1 182 rfl) rfl
theorem q322 : (Jvm.Cond.fieldLink "LockRail$Night" (22 : Nat) "LockRail$Night" "sets" "[I") ∈ lw_all := lw_g (lw_at lw_m1 183 rfl) rfl
theorem q323 : (Jvm.Cond.fieldLink "LockRail$Night" (26 : Nat) "LockRail$Night" "nextSets" "[I") ∈ lw_all := lw_g (lw_at lw_m1 184 rfl) rfl
theorem q324 : (Jvm.Cond.fieldLink "LockRail$Night" (36 : Nat) "LockRail$Night" "setMany" "I") ∈ lw_all := lw_g (lw_at lw_m1 185 rfl) rfl
theorem q325 : (Jvm.Cond.fieldLink "LockRail$Night" (32 : Nat) "LockRail$Night" "nextMany" "I") ∈ lw_all := lw_g (lw_at lw_m1 186 rfl) rfl
theorem q326 : (Jvm.Cond.fieldLink "LockRail$Night" (29 : Nat) "LockRail$Night" "byThief" "[J") ∈ lw_all := lw_g (lw_at lw_m1 187 rfl) rfl
theorem q328 : (Jvm.Cond.fieldLink "LockRail$Night" (3 : Nat) "LockRail$Night" "this$0" "LLockRail;") ∈ lw_all := lw_g (lw_at lw_m1 189 rfl) rfl
theorem q329 : (Jvm.Cond.laysFinal "LockRail$Night" "LockRail$Night" "parts" "[J") ∈ lw_all := lw_g (lw_at lw_m1 190 rfl) rfl
theorem q330 : (Jvm.Cond.soleField "LockRail$Night" "parts") ∈ lw_all := lw_g (lw_at lw_m1 191 rfl) rfl
theorem q331 : (Jvm.Cond.laysFinal "LockRail$Night" "LockRail$Night" "then" "[J") ∈ lw_all := lw_g (lw_at lw_m1 192 rfl) rfl
theorem q332 : (Jvm.Cond.soleField "LockRail$Night" "then") ∈ lw_all := lw_g (lw_at lw_m1 193 rfl) rfl
theorem q333 : (Jvm.Cond.lays "LockRail$Night" "LockRail$Night" "sets" "[I") ∈ lw_all := lw_g (lw_at lw_m1 194 rfl) rfl
theorem q334 : (Jvm.Cond.soleField "LockRail$Night" "sets") ∈ lw_all := lw_g (lw_at lw_m1 195 rfl) rfl
theorem q335 : (Jvm.Cond.lays "LockRail$Night" "LockRail$Night" "nextSets" "[I") ∈ lw_all := lw_g (lw_at lw_m1 196 rfl) rfl
theorem q336 : (Jvm.Cond.soleField "LockRail$Night" "nextSets") ∈ lw_all := lw_g (lw_at lw_m1 197 rfl) rfl
theorem q337 : (Jvm.Cond.lays "LockRail$Night" "LockRail$Night" "setMany" "I") ∈ lw_all := lw_g (lw_at lw_m1 198 rfl) rfl
theorem q338 : (Jvm.Cond.soleField "LockRail$Night" "setMany") ∈ lw_all := lw_g (lw_at lw_m1 199 rfl) rfl
theorem q339 : (Jvm.Cond.lays "LockRail$Night" "LockRail$Night" "nextMany" "I") ∈ lw_all := lw_g (lw_at lw_m1 200 rfl) rfl
theorem q340 : (Jvm.Cond.soleField "LockRail$Night" "nextMany") ∈ lw_all := lw_g (lw_at lw_m1 201 rfl) rfl
theorem q341 : (Jvm.Cond.laysFinal "LockRail$Night" "LockRail$Night" "byThief" "[J") ∈ lw_all := lw_g (lw_at lw_m1 202 rfl) rfl
theorem q342 : (Jvm.Cond.soleField "LockRail$Night" "byThief") ∈ lw_all := lw_g (lw_at lw_m1 203 rfl) rfl
theorem q343 : (Jvm.Cond.laysFinal "LockRail$Night" "LockRail$Night" "this$0" "LLockRail;") ∈ lw_all := lw_g (lw_at lw_m1 204 rfl) rfl
theorem q344 : (Jvm.Cond.soleField "LockRail$Night" "this$0") ∈ lw_all := lw_g (lw_at lw_m1 205 rfl) rfl
theorem q345 : (Jvm.Cond.superclass "LockRail$Night" "java/lang/Object") ∈ lw_all := lw_g (lw_at lw_m1 206 rfl) rfl
theorem q407 : (Jvm.Cond.fieldLinkNest "LockRail$Night" (48 : Nat) "LockRail" "rail" "LLockRail$Rail;" "LockRail") ∈ lw_tbl := lw_at lw_m2 28 rfl
theorem q776 : (Jvm.Cond.selects "LockRail$Night" ({ cls := "java/lang/Object", name := "getClass", desc := "()Ljava/lang/Class;" } : Jvm.MethodName) ({ cls := "java/lang/Object", name := "getClass", desc := "()Ljava/lang/Class;" } : Jvm.MethodName)) ∈ lw_all := lw_g (lw_at lw_m3 157 rfl) rfl
theorem q855 : (Jvm.Cond.fieldLinkNest "LockRail$Night" (104 : Nat) "LockRail$Bike" "worth" "I" "LockRail") ∈ lw_tbl := lw_at lw_m3 236 rfl
theorem q904 : (Jvm.Cond.fieldLink "LockRail$Night" (39 : Nat) "LockRail$Thief" "comes" "I") ∈ lw_all := lw_g (lw_at lw_m4 45 rfl) rfl
theorem q1090 : (Jvm.Cond.instanceMethod ({ cls := "LockRail$Night", name := "lay", desc := "()LLockRail$Night;" } : Jvm.MethodName)) ∈ lw_all := lw_g (lw_at lw_m4 231 rfl) rfl
theorem q1091 : (Jvm.Cond.selects "LockRail$Night" ({ cls := "LockRail$Night", name := "lay", desc := "()LLockRail$Night;" } : Jvm.MethodName) ({ cls := "LockRail$Night", name := "lay", desc := "()LLockRail$Night;" } : Jvm.MethodName)) ∈ lw_all := lw_g (lw_at lw_m4 232 rfl) rfl
theorem q1092 : (Jvm.Cond.code ({ cls := "LockRail$Night", name := "lay", desc := "()LLockRail$Night;" } : Jvm.MethodName) prog_12_method_6_code (1 : Nat) (Option.some (Jvm.ClassFile.FieldType.object "LockRail$Night"))) ∈ lw_all := lw_g (lw_at lw_m4 233 rfl) rfl
theorem q1093 : (Jvm.Cond.methodLink "LockRail$Night" (80 : Nat) ({ cls := "java/util/ArrayList", name := "size", desc := "()I" } : Jvm.MethodName)) ∈ lw_all := lw_g (lw_at lw_m4 234 rfl) rfl
theorem q1094 : (Jvm.Cond.methodLink "LockRail$Night" (84 : Nat) ({ cls := "LockRail$Night", name := "lay", desc := "(I)LLockRail$Night;" } : Jvm.MethodName)) ∈ lw_all := lw_g (lw_at lw_m4 235 rfl) rfl
theorem q1095 : (Jvm.Cond.instanceMethod ({ cls := "LockRail$Night", name := "lay", desc := "(I)LLockRail$Night;" } : Jvm.MethodName)) ∈ lw_all := lw_g (lw_at lw_m4 236 rfl) rfl
theorem q1096 : (Jvm.Cond.selects "LockRail$Night" ({ cls := "LockRail$Night", name := "lay", desc := "(I)LLockRail$Night;" } : Jvm.MethodName) ({ cls := "LockRail$Night", name := "lay", desc := "(I)LLockRail$Night;" } : Jvm.MethodName)) ∈ lw_all := lw_g (lw_at lw_m4 237 rfl) rfl
theorem q1097 : (Jvm.Cond.code ({ cls := "LockRail$Night", name := "lay", desc := "(I)LLockRail$Night;" } : Jvm.MethodName) prog_12_method_5_code (3 : Nat) (Option.some (Jvm.ClassFile.FieldType.object "LockRail$Night"))) ∈ lw_all := lw_g (lw_at lw_m4 238 rfl) rfl
theorem q1098 : (Jvm.Cond.methodLink "LockRail$Night" (62 : Nat) ({ cls := "LockRail$Night", name := "begin", desc := "()V" } : Jvm.MethodName)) ∈ lw_all := lw_g (lw_at lw_m4 239 rfl) rfl
theorem q1099 : (Jvm.Cond.privateMethod ({ cls := "LockRail$Night", name := "begin", desc := "()V" } : Jvm.MethodName)) ∈ lw_tbl := lw_at lw_m5 0 rfl
theorem q1100 : (Jvm.Cond.instanceMethod ({ cls := "LockRail$Night", name := "begin", desc := "()V" } : Jvm.MethodName)) ∈ lw_all := lw_g (lw_at lw_m5 1 rfl) rfl
theorem q1101 : (Jvm.Cond.code ({ cls := "LockRail$Night", name := "begin", desc := "()V" } : Jvm.MethodName) prog_12_method_4_code (2 : Nat) (Option.none : Option Jvm.ClassFile.FieldType)) ∈ lw_all := lw_g (lw_at lw_m5 2 rfl) rfl
theorem q1102 : (Jvm.Cond.constantLong "LockRail$Night" (60 : Nat) (1000000000000 : Int64)) ∈ lw_all := lw_g (lw_at lw_m5 3 rfl) rfl
theorem q1103 : (Jvm.Cond.methodLink "LockRail$Night" (71 : Nat) ({ cls := "java/util/ArrayList", name := "get", desc := "(I)Ljava/lang/Object;" } : Jvm.MethodName)) ∈ lw_all := lw_g (lw_at lw_m5 4 rfl) rfl
theorem q1104 : (Jvm.Cond.classLink "LockRail$Night" (40 : Nat) "LockRail$Thief") ∈ lw_all := lw_g (lw_at lw_m5 5 rfl) rfl
theorem q1105 : (Jvm.Cond.methodLink "LockRail$Night" (77 : Nat) ({ cls := "LockRail$Night", name := "comes", desc := "(LLockRail$Thief;)V" } : Jvm.MethodName)) ∈ lw_all := lw_g (lw_at lw_m5 6 rfl) rfl
theorem q1106 : (Jvm.Cond.privateMethod ({ cls := "LockRail$Night", name := "comes", desc := "(LLockRail$Thief;)V" } : Jvm.MethodName)) ∈ lw_tbl := lw_at lw_m5 7 rfl
theorem q1107 : (Jvm.Cond.instanceMethod ({ cls := "LockRail$Night", name := "comes", desc := "(LLockRail$Thief;)V" } : Jvm.MethodName)) ∈ lw_all := lw_g (lw_at lw_m5 8 rfl) rfl
theorem q1108 : (Jvm.Cond.code ({ cls := "LockRail$Night", name := "comes", desc := "(LLockRail$Thief;)V" } : Jvm.MethodName) prog_12_method_3_code (9 : Nat) (Option.none : Option Jvm.ClassFile.FieldType)) ∈ lw_all := lw_g (lw_at lw_m5 9 rfl) rfl
theorem q1109 : (Jvm.Cond.methodLinkNest "LockRail$Night" (44 : Nat) ({ cls := "LockRail", name := "hundredth", desc := "(JI)J" } : Jvm.MethodName) "LockRail") ∈ lw_tbl := lw_at lw_m5 10 rfl
theorem q1113 : (Jvm.Cond.methodLink "LockRail$Night" (52 : Nat) ({ cls := "LockRail$Thief", name := "takes", desc := "(LLockRail$Rail;I)I" } : Jvm.MethodName)) ∈ lw_all := lw_g (lw_at lw_m5 14 rfl) rfl
theorem q1114 : (Jvm.Cond.methodLink "LockRail$Night" (56 : Nat) ({ cls := "LockRail$Night", name := "puts", desc := "(IJ)V" } : Jvm.MethodName)) ∈ lw_all := lw_g (lw_at lw_m5 15 rfl) rfl
theorem q1115 : (Jvm.Cond.privateMethod ({ cls := "LockRail$Night", name := "puts", desc := "(IJ)V" } : Jvm.MethodName)) ∈ lw_tbl := lw_at lw_m5 16 rfl
theorem q1116 : (Jvm.Cond.instanceMethod ({ cls := "LockRail$Night", name := "puts", desc := "(IJ)V" } : Jvm.MethodName)) ∈ lw_all := lw_g (lw_at lw_m5 17 rfl) rfl
theorem q1117 : (Jvm.Cond.code ({ cls := "LockRail$Night", name := "puts", desc := "(IJ)V" } : Jvm.MethodName) prog_12_method_2_code (4 : Nat) (Option.none : Option Jvm.ClassFile.FieldType)) ∈ lw_all := lw_g (lw_at lw_m5 18 rfl) rfl
theorem q1134 : (Jvm.Cond.instanceMethod ({ cls := "LockRail$Night", name := "risk", desc := "(I)J" } : Jvm.MethodName)) ∈ lw_all := lw_g (lw_at lw_m5 35 rfl) rfl
theorem q1135 : (Jvm.Cond.selects "LockRail$Night" ({ cls := "LockRail$Night", name := "risk", desc := "(I)J" } : Jvm.MethodName) ({ cls := "LockRail$Night", name := "risk", desc := "(I)J" } : Jvm.MethodName)) ∈ lw_all := lw_g (lw_at lw_m5 36 rfl) rfl
theorem q1136 : (Jvm.Cond.code ({ cls := "LockRail$Night", name := "risk", desc := "(I)J" } : Jvm.MethodName) prog_12_method_7_code (5 : Nat) (Option.some Jvm.ClassFile.FieldType.long)) ∈ lw_all := lw_g (lw_at lw_m5 37 rfl) rfl
theorem q1137 : (Jvm.Cond.methodLinkNest "LockRail$Night" (88 : Nat) ({ cls := "LockRail", name := "holds", desc := "(II)Z" } : Jvm.MethodName) "LockRail") ∈ lw_tbl := lw_at lw_m5 38 rfl
theorem q1154 : (Jvm.Cond.instanceMethod ({ cls := "LockRail$Night", name := "loss", desc := "(I)J" } : Jvm.MethodName)) ∈ lw_all := lw_g (lw_at lw_m5 55 rfl) rfl
theorem q1155 : (Jvm.Cond.selects "LockRail$Night" ({ cls := "LockRail$Night", name := "loss", desc := "(I)J" } : Jvm.MethodName) ({ cls := "LockRail$Night", name := "loss", desc := "(I)J" } : Jvm.MethodName)) ∈ lw_all := lw_g (lw_at lw_m5 56 rfl) rfl
theorem q1156 : (Jvm.Cond.code ({ cls := "LockRail$Night", name := "loss", desc := "(I)J" } : Jvm.MethodName) prog_12_method_8_code (2 : Nat) (Option.some Jvm.ClassFile.FieldType.long)) ∈ lw_all := lw_g (lw_at lw_m5 57 rfl) rfl
theorem q1157 : (Jvm.Cond.methodLink "LockRail$Night" (95 : Nat) ({ cls := "LockRail$Night", name := "risk", desc := "(I)J" } : Jvm.MethodName)) ∈ lw_all := lw_g (lw_at lw_m5 58 rfl) rfl
theorem q1158 : (Jvm.Cond.classLink "LockRail$Night" (102 : Nat) "LockRail$Bike") ∈ lw_all := lw_g (lw_at lw_m5 59 rfl) rfl
theorem q1159 : (Jvm.Cond.constantLong "LockRail$Night" (107 : Nat) (1000000000 : Int64)) ∈ lw_all := lw_g (lw_at lw_m5 60 rfl) rfl
theorem q2542 : (Jvm.Cond.castable "LockRail$Night" "java/lang/Object") ∈ lw_tbl := lw_at lw_m11 3 rfl
theorem in_X2 : ∀ w ∈ wsX20, w ∈ lw_all := lw_in wsX20 [329, 331, 333, 335, 337, 339, 341, 343] (by decide +kernel) (by decide +kernel)

/-! LockRail$Year -/
set_option maxRecDepth 100000
def RX3 : String := "LockRail$Year"
def TX3 : u_T := fun k => match k with
  | 0 => ("LockRail$Year", "taken", "[I", true)
  | 1 => ("LockRail$Year", "took", "[I", true)
  | 2 => ("LockRail$Year", "isThere", "Z", false)
  | 3 => ("LockRail$Year", "gone", "I", false)
  | _ => ("LockRail$Year", "this$0", "LLockRail;", true)
def tyX3 : Nat → FieldType := fun k => match k with
  | 0 => .array .int
  | 1 => .array .int
  | 2 => .boolean
  | 3 => .int
  | _ => .object "LockRail"
abbrev wsX30 : List Cond := u_ws RX3 TX3 5
theorem nmX3 : ∀ a, a < 5 → ∀ b, b < 5 → a ≠ b → (TX3 a).2.1 ≠ (TX3 b).2.1 := by decide +kernel
theorem tyX3_ok : ∀ k, k < 5 → parseFieldDescriptor (TX3 k).2.2.1 = some (tyX3 k) := by decide +kernel
abbrev cX3_init : ByteArray := prog_18_method_1_code
def yX3_init : MethodName := ⟨RX3, "<init>", "(LLockRail;)V"⟩
def dkwX3_init_1 : List UInt8 := [181, 0, 19, 177]
abbrev dktX3_init_1 : List UInt8 := dkwX3_init_1 ++ []
def dkwX3_init_0 : List UInt8 := [42, 43, 181, 0, 3, 42, 183, 0, 9, 42, 16, 10, 188, 10, 181, 0, 15, 42, 16, 6, 188, 10]
abbrev dktX3_init_0 : List UInt8 := dkwX3_init_0 ++ dktX3_init_1
theorem dksX3_init_0 : cX3_init.data.toList.drop 0 = dktX3_init_0 := by decide +kernel
theorem dksX3_init_1 : cX3_init.data.toList.drop 22 = dktX3_init_1 := dk_seg dksX3_init_0 22 rfl rfl
theorem dX3_init_0 : decode cX3_init 0 = .ok (.aload_n 0, 1) := dk_42 (dk_at dksX3_init_0 0 rfl rfl)
theorem dX3_init_1 : decode cX3_init 1 = .ok (.aload_n 1, 1) := dk_43 (dk_at dksX3_init_0 1 rfl rfl)
theorem dX3_init_2 : decode cX3_init 2 = .ok (.putfield 3, 3) := dk_181 0 3 (dk_at dksX3_init_0 2 rfl rfl)
theorem dX3_init_5 : decode cX3_init 5 = .ok (.aload_n 0, 1) := dk_42 (dk_at dksX3_init_0 5 rfl rfl)
theorem dX3_init_6 : decode cX3_init 6 = .ok (.invokespecial 9, 3) := dk_183 0 9 (dk_at dksX3_init_0 6 rfl rfl)
theorem dX3_init_9 : decode cX3_init 9 = .ok (.aload_n 0, 1) := dk_42 (dk_at dksX3_init_0 9 rfl rfl)
theorem dX3_init_10 : decode cX3_init 10 = .ok (.bipush 10, 2) := dk_16 10 (dk_at dksX3_init_0 10 rfl rfl)
theorem dX3_init_12 : decode cX3_init 12 = .ok (.newarray .int, 2) := dk_188_10 (dk_at dksX3_init_0 12 rfl rfl)
theorem dX3_init_14 : decode cX3_init 14 = .ok (.putfield 15, 3) := dk_181 0 15 (dk_at dksX3_init_0 14 rfl rfl)
theorem dX3_init_17 : decode cX3_init 17 = .ok (.aload_n 0, 1) := dk_42 (dk_at dksX3_init_0 17 rfl rfl)
theorem dX3_init_18 : decode cX3_init 18 = .ok (.bipush 6, 2) := dk_16 6 (dk_at dksX3_init_0 18 rfl rfl)
theorem dX3_init_20 : decode cX3_init 20 = .ok (.newarray .int, 2) := dk_188_10 (dk_at dksX3_init_0 20 rfl rfl)
theorem dX3_init_22 : decode cX3_init 22 = .ok (.putfield 19, 3) := dk_181 0 19 (dk_at dksX3_init_1 0 rfl rfl)
theorem dX3_init_25 : decode cX3_init 25 = .ok (.return_, 1) := dk_177 (dk_at dksX3_init_1 3 rfl rfl)
abbrev cX3_drawn : ByteArray := prog_18_method_5_code
def yX3_drawn : MethodName := ⟨RX3, "drawn", "(J)V"⟩
def dkwX3_drawn_4 : List UInt8 := [132, 5, 1, 167, 255, 201, 132, 4, 1, 167, 255, 172, 177]
abbrev dktX3_drawn_4 : List UInt8 := dkwX3_drawn_4 ++ []
def dkwX3_drawn_3 : List UInt8 := [180, 0, 36, 21, 5, 182, 0, 42, 192, 0, 48, 180, 0, 76, 162, 0, 9, 42, 21, 5, 182, 0, 79]
abbrev dktX3_drawn_3 : List UInt8 := dkwX3_drawn_3 ++ dktX3_drawn_4
def dkwX3_drawn_2 : List UInt8 := [180, 0, 32, 180, 0, 36, 182, 0, 69, 162, 0, 43, 45, 182, 0, 73, 42, 180, 0, 3, 180, 0, 32]
abbrev dktX3_drawn_2 : List UInt8 := dkwX3_drawn_2 ++ dktX3_drawn_3
def dkwX3_drawn_1 : List UInt8 := [180, 0, 32, 180, 0, 66, 162, 0, 75, 42, 3, 181, 0, 50, 3, 54, 5, 21, 5, 42, 180, 0, 3]
abbrev dktX3_drawn_1 : List UInt8 := dkwX3_drawn_1 ++ dktX3_drawn_2
def dkwX3_drawn_0 : List UInt8 := [187, 0, 58, 89, 31, 183, 0, 60, 78, 42, 182, 0, 63, 3, 54, 4, 21, 4, 42, 180, 0, 3]
abbrev dktX3_drawn_0 : List UInt8 := dkwX3_drawn_0 ++ dktX3_drawn_1
theorem dksX3_drawn_0 : cX3_drawn.data.toList.drop 0 = dktX3_drawn_0 := by decide +kernel
theorem dksX3_drawn_1 : cX3_drawn.data.toList.drop 22 = dktX3_drawn_1 := dk_seg dksX3_drawn_0 22 rfl rfl
theorem dksX3_drawn_2 : cX3_drawn.data.toList.drop 45 = dktX3_drawn_2 := dk_seg dksX3_drawn_1 23 rfl rfl
theorem dksX3_drawn_3 : cX3_drawn.data.toList.drop 68 = dktX3_drawn_3 := dk_seg dksX3_drawn_2 23 rfl rfl
theorem dksX3_drawn_4 : cX3_drawn.data.toList.drop 91 = dktX3_drawn_4 := dk_seg dksX3_drawn_3 23 rfl rfl
theorem dX3_drawn_0 : decode cX3_drawn 0 = .ok (.new 58, 3) := dk_187 0 58 (dk_at dksX3_drawn_0 0 rfl rfl)
theorem dX3_drawn_3 : decode cX3_drawn 3 = .ok (.dup, 1) := dk_89 (dk_at dksX3_drawn_0 3 rfl rfl)
theorem dX3_drawn_4 : decode cX3_drawn 4 = .ok (.lload_n 1, 1) := dk_31 (dk_at dksX3_drawn_0 4 rfl rfl)
theorem dX3_drawn_5 : decode cX3_drawn 5 = .ok (.invokespecial 60, 3) := dk_183 0 60 (dk_at dksX3_drawn_0 5 rfl rfl)
theorem dX3_drawn_8 : decode cX3_drawn 8 = .ok (.astore_n 3, 1) := dk_78 (dk_at dksX3_drawn_0 8 rfl rfl)
theorem dX3_drawn_9 : decode cX3_drawn 9 = .ok (.aload_n 0, 1) := dk_42 (dk_at dksX3_drawn_0 9 rfl rfl)
theorem dX3_drawn_10 : decode cX3_drawn 10 = .ok (.invokevirtual 63, 3) := dk_182 0 63 (dk_at dksX3_drawn_0 10 rfl rfl)
theorem dX3_drawn_13 : decode cX3_drawn 13 = .ok (.iconst 0, 1) := dk_3 (dk_at dksX3_drawn_0 13 rfl rfl)
theorem dX3_drawn_14 : decode cX3_drawn 14 = .ok (.istore 4, 2) := dk_54 4 (dk_at dksX3_drawn_0 14 rfl rfl)
theorem dX3_drawn_16 : decode cX3_drawn 16 = .ok (.iload 4, 2) := dk_21 4 (dk_at dksX3_drawn_0 16 rfl rfl)
theorem dX3_drawn_18 : decode cX3_drawn 18 = .ok (.aload_n 0, 1) := dk_42 (dk_at dksX3_drawn_0 18 rfl rfl)
theorem dX3_drawn_19 : decode cX3_drawn 19 = .ok (.getfield 3, 3) := dk_180 0 3 (dk_at dksX3_drawn_0 19 rfl rfl)
theorem dX3_drawn_22 : decode cX3_drawn 22 = .ok (.getfield 32, 3) := dk_180 0 32 (dk_at dksX3_drawn_1 0 rfl rfl)
theorem dX3_drawn_25 : decode cX3_drawn 25 = .ok (.getfield 66, 3) := dk_180 0 66 (dk_at dksX3_drawn_1 3 rfl rfl)
theorem dX3_drawn_28 : decode cX3_drawn 28 = .ok (.if_icmp .ge 75, 3) := dk_162 0 75 (dk_at dksX3_drawn_1 6 rfl rfl)
theorem dX3_drawn_31 : decode cX3_drawn 31 = .ok (.aload_n 0, 1) := dk_42 (dk_at dksX3_drawn_1 9 rfl rfl)
theorem dX3_drawn_32 : decode cX3_drawn 32 = .ok (.iconst 0, 1) := dk_3 (dk_at dksX3_drawn_1 10 rfl rfl)
theorem dX3_drawn_33 : decode cX3_drawn 33 = .ok (.putfield 50, 3) := dk_181 0 50 (dk_at dksX3_drawn_1 11 rfl rfl)
theorem dX3_drawn_36 : decode cX3_drawn 36 = .ok (.iconst 0, 1) := dk_3 (dk_at dksX3_drawn_1 14 rfl rfl)
theorem dX3_drawn_37 : decode cX3_drawn 37 = .ok (.istore 5, 2) := dk_54 5 (dk_at dksX3_drawn_1 15 rfl rfl)
theorem dX3_drawn_39 : decode cX3_drawn 39 = .ok (.iload 5, 2) := dk_21 5 (dk_at dksX3_drawn_1 17 rfl rfl)
theorem dX3_drawn_41 : decode cX3_drawn 41 = .ok (.aload_n 0, 1) := dk_42 (dk_at dksX3_drawn_1 19 rfl rfl)
theorem dX3_drawn_42 : decode cX3_drawn 42 = .ok (.getfield 3, 3) := dk_180 0 3 (dk_at dksX3_drawn_1 20 rfl rfl)
theorem dX3_drawn_45 : decode cX3_drawn 45 = .ok (.getfield 32, 3) := dk_180 0 32 (dk_at dksX3_drawn_2 0 rfl rfl)
theorem dX3_drawn_48 : decode cX3_drawn 48 = .ok (.getfield 36, 3) := dk_180 0 36 (dk_at dksX3_drawn_2 3 rfl rfl)
theorem dX3_drawn_51 : decode cX3_drawn 51 = .ok (.invokevirtual 69, 3) := dk_182 0 69 (dk_at dksX3_drawn_2 6 rfl rfl)
theorem dX3_drawn_54 : decode cX3_drawn 54 = .ok (.if_icmp .ge 43, 3) := dk_162 0 43 (dk_at dksX3_drawn_2 9 rfl rfl)
theorem dX3_drawn_57 : decode cX3_drawn 57 = .ok (.aload_n 3, 1) := dk_45 (dk_at dksX3_drawn_2 12 rfl rfl)
theorem dX3_drawn_58 : decode cX3_drawn 58 = .ok (.invokevirtual 73, 3) := dk_182 0 73 (dk_at dksX3_drawn_2 13 rfl rfl)
theorem dX3_drawn_61 : decode cX3_drawn 61 = .ok (.aload_n 0, 1) := dk_42 (dk_at dksX3_drawn_2 16 rfl rfl)
theorem dX3_drawn_62 : decode cX3_drawn 62 = .ok (.getfield 3, 3) := dk_180 0 3 (dk_at dksX3_drawn_2 17 rfl rfl)
theorem dX3_drawn_65 : decode cX3_drawn 65 = .ok (.getfield 32, 3) := dk_180 0 32 (dk_at dksX3_drawn_2 20 rfl rfl)
theorem dX3_drawn_68 : decode cX3_drawn 68 = .ok (.getfield 36, 3) := dk_180 0 36 (dk_at dksX3_drawn_3 0 rfl rfl)
theorem dX3_drawn_71 : decode cX3_drawn 71 = .ok (.iload 5, 2) := dk_21 5 (dk_at dksX3_drawn_3 3 rfl rfl)
theorem dX3_drawn_73 : decode cX3_drawn 73 = .ok (.invokevirtual 42, 3) := dk_182 0 42 (dk_at dksX3_drawn_3 5 rfl rfl)
theorem dX3_drawn_76 : decode cX3_drawn 76 = .ok (.checkcast 48, 3) := dk_192 0 48 (dk_at dksX3_drawn_3 8 rfl rfl)
theorem dX3_drawn_79 : decode cX3_drawn 79 = .ok (.getfield 76, 3) := dk_180 0 76 (dk_at dksX3_drawn_3 11 rfl rfl)
theorem dX3_drawn_82 : decode cX3_drawn 82 = .ok (.if_icmp .ge 9, 3) := dk_162 0 9 (dk_at dksX3_drawn_3 14 rfl rfl)
theorem dX3_drawn_85 : decode cX3_drawn 85 = .ok (.aload_n 0, 1) := dk_42 (dk_at dksX3_drawn_3 17 rfl rfl)
theorem dX3_drawn_86 : decode cX3_drawn 86 = .ok (.iload 5, 2) := dk_21 5 (dk_at dksX3_drawn_3 18 rfl rfl)
theorem dX3_drawn_88 : decode cX3_drawn 88 = .ok (.invokevirtual 79, 3) := dk_182 0 79 (dk_at dksX3_drawn_3 20 rfl rfl)
theorem dX3_drawn_91 : decode cX3_drawn 91 = .ok (.iinc 5 1, 3) := dk_132 5 1 (dk_at dksX3_drawn_4 0 rfl rfl)
theorem dX3_drawn_94 : decode cX3_drawn 94 = .ok (.goto (-55), 3) := dk_167 255 201 (dk_at dksX3_drawn_4 3 rfl rfl)
theorem dX3_drawn_97 : decode cX3_drawn 97 = .ok (.iinc 4 1, 3) := dk_132 4 1 (dk_at dksX3_drawn_4 6 rfl rfl)
theorem dX3_drawn_100 : decode cX3_drawn 100 = .ok (.goto (-84), 3) := dk_167 255 172 (dk_at dksX3_drawn_4 9 rfl rfl)
theorem dX3_drawn_103 : decode cX3_drawn 103 = .ok (.return_, 1) := dk_177 (dk_at dksX3_drawn_4 12 rfl rfl)
abbrev cX3_begin : ByteArray := prog_18_method_3_code
def yX3_begin : MethodName := ⟨RX3, "begin", "()V"⟩
def dkwX3_begin_1 : List UInt8 := [16, 6, 162, 0, 16, 42, 180, 0, 19, 27, 3, 79, 132, 1, 1, 167, 255, 240, 42, 4, 181, 0, 28, 177]
abbrev dktX3_begin_1 : List UInt8 := dkwX3_begin_1 ++ []
def dkwX3_begin_0 : List UInt8 := [3, 60, 27, 16, 10, 162, 0, 16, 42, 180, 0, 15, 27, 3, 79, 132, 1, 1, 167, 255, 240, 3, 60, 27]
abbrev dktX3_begin_0 : List UInt8 := dkwX3_begin_0 ++ dktX3_begin_1
theorem dksX3_begin_0 : cX3_begin.data.toList.drop 0 = dktX3_begin_0 := by decide +kernel
theorem dksX3_begin_1 : cX3_begin.data.toList.drop 24 = dktX3_begin_1 := dk_seg dksX3_begin_0 24 rfl rfl
theorem dX3_begin_0 : decode cX3_begin 0 = .ok (.iconst 0, 1) := dk_3 (dk_at dksX3_begin_0 0 rfl rfl)
theorem dX3_begin_1 : decode cX3_begin 1 = .ok (.istore_n 1, 1) := dk_60 (dk_at dksX3_begin_0 1 rfl rfl)
theorem dX3_begin_2 : decode cX3_begin 2 = .ok (.iload_n 1, 1) := dk_27 (dk_at dksX3_begin_0 2 rfl rfl)
theorem dX3_begin_3 : decode cX3_begin 3 = .ok (.bipush 10, 2) := dk_16 10 (dk_at dksX3_begin_0 3 rfl rfl)
theorem dX3_begin_5 : decode cX3_begin 5 = .ok (.if_icmp .ge 16, 3) := dk_162 0 16 (dk_at dksX3_begin_0 5 rfl rfl)
theorem dX3_begin_8 : decode cX3_begin 8 = .ok (.aload_n 0, 1) := dk_42 (dk_at dksX3_begin_0 8 rfl rfl)
theorem dX3_begin_9 : decode cX3_begin 9 = .ok (.getfield 15, 3) := dk_180 0 15 (dk_at dksX3_begin_0 9 rfl rfl)
theorem dX3_begin_12 : decode cX3_begin 12 = .ok (.iload_n 1, 1) := dk_27 (dk_at dksX3_begin_0 12 rfl rfl)
theorem dX3_begin_13 : decode cX3_begin 13 = .ok (.iconst 0, 1) := dk_3 (dk_at dksX3_begin_0 13 rfl rfl)
theorem dX3_begin_14 : decode cX3_begin 14 = .ok (.iastore, 1) := dk_79 (dk_at dksX3_begin_0 14 rfl rfl)
theorem dX3_begin_15 : decode cX3_begin 15 = .ok (.iinc 1 1, 3) := dk_132 1 1 (dk_at dksX3_begin_0 15 rfl rfl)
theorem dX3_begin_18 : decode cX3_begin 18 = .ok (.goto (-16), 3) := dk_167 255 240 (dk_at dksX3_begin_0 18 rfl rfl)
theorem dX3_begin_21 : decode cX3_begin 21 = .ok (.iconst 0, 1) := dk_3 (dk_at dksX3_begin_0 21 rfl rfl)
theorem dX3_begin_22 : decode cX3_begin 22 = .ok (.istore_n 1, 1) := dk_60 (dk_at dksX3_begin_0 22 rfl rfl)
theorem dX3_begin_23 : decode cX3_begin 23 = .ok (.iload_n 1, 1) := dk_27 (dk_at dksX3_begin_0 23 rfl rfl)
theorem dX3_begin_24 : decode cX3_begin 24 = .ok (.bipush 6, 2) := dk_16 6 (dk_at dksX3_begin_1 0 rfl rfl)
theorem dX3_begin_26 : decode cX3_begin 26 = .ok (.if_icmp .ge 16, 3) := dk_162 0 16 (dk_at dksX3_begin_1 2 rfl rfl)
theorem dX3_begin_29 : decode cX3_begin 29 = .ok (.aload_n 0, 1) := dk_42 (dk_at dksX3_begin_1 5 rfl rfl)
theorem dX3_begin_30 : decode cX3_begin 30 = .ok (.getfield 19, 3) := dk_180 0 19 (dk_at dksX3_begin_1 6 rfl rfl)
theorem dX3_begin_33 : decode cX3_begin 33 = .ok (.iload_n 1, 1) := dk_27 (dk_at dksX3_begin_1 9 rfl rfl)
theorem dX3_begin_34 : decode cX3_begin 34 = .ok (.iconst 0, 1) := dk_3 (dk_at dksX3_begin_1 10 rfl rfl)
theorem dX3_begin_35 : decode cX3_begin 35 = .ok (.iastore, 1) := dk_79 (dk_at dksX3_begin_1 11 rfl rfl)
theorem dX3_begin_36 : decode cX3_begin 36 = .ok (.iinc 1 1, 3) := dk_132 1 1 (dk_at dksX3_begin_1 12 rfl rfl)
theorem dX3_begin_39 : decode cX3_begin 39 = .ok (.goto (-16), 3) := dk_167 255 240 (dk_at dksX3_begin_1 15 rfl rfl)
theorem dX3_begin_42 : decode cX3_begin 42 = .ok (.aload_n 0, 1) := dk_42 (dk_at dksX3_begin_1 18 rfl rfl)
theorem dX3_begin_43 : decode cX3_begin 43 = .ok (.iconst 1, 1) := dk_4 (dk_at dksX3_begin_1 19 rfl rfl)
theorem dX3_begin_44 : decode cX3_begin 44 = .ok (.putfield 28, 3) := dk_181 0 28 (dk_at dksX3_begin_1 20 rfl rfl)
theorem dX3_begin_47 : decode cX3_begin 47 = .ok (.return_, 1) := dk_177 (dk_at dksX3_begin_1 23 rfl rfl)
abbrev cX3_comes : ByteArray := prog_18_method_4_code
def yX3_comes : MethodName := ⟨RX3, "comes", "(I)V"⟩
def dkwX3_comes_2 : List UInt8 := [181, 0, 50, 42, 180, 0, 15, 28, 92, 46, 4, 96, 79, 42, 180, 0, 19, 27, 92, 46, 4, 96, 79, 177]
abbrev dktX3_comes_2 : List UInt8 := dkwX3_comes_2 ++ []
def dkwX3_comes_1 : List UInt8 := [42, 180, 0, 50, 182, 0, 54, 61, 28, 2, 160, 0, 4, 177, 42, 89, 180, 0, 50, 4, 28, 120, 128]
abbrev dktX3_comes_1 : List UInt8 := dkwX3_comes_1 ++ dktX3_comes_2
def dkwX3_comes_0 : List UInt8 := [42, 180, 0, 3, 180, 0, 32, 180, 0, 36, 27, 182, 0, 42, 192, 0, 48, 42, 180, 0, 3, 180, 0, 32]
abbrev dktX3_comes_0 : List UInt8 := dkwX3_comes_0 ++ dktX3_comes_1
theorem dksX3_comes_0 : cX3_comes.data.toList.drop 0 = dktX3_comes_0 := by decide +kernel
theorem dksX3_comes_1 : cX3_comes.data.toList.drop 24 = dktX3_comes_1 := dk_seg dksX3_comes_0 24 rfl rfl
theorem dksX3_comes_2 : cX3_comes.data.toList.drop 47 = dktX3_comes_2 := dk_seg dksX3_comes_1 23 rfl rfl
theorem dX3_comes_0 : decode cX3_comes 0 = .ok (.aload_n 0, 1) := dk_42 (dk_at dksX3_comes_0 0 rfl rfl)
theorem dX3_comes_1 : decode cX3_comes 1 = .ok (.getfield 3, 3) := dk_180 0 3 (dk_at dksX3_comes_0 1 rfl rfl)
theorem dX3_comes_4 : decode cX3_comes 4 = .ok (.getfield 32, 3) := dk_180 0 32 (dk_at dksX3_comes_0 4 rfl rfl)
theorem dX3_comes_7 : decode cX3_comes 7 = .ok (.getfield 36, 3) := dk_180 0 36 (dk_at dksX3_comes_0 7 rfl rfl)
theorem dX3_comes_10 : decode cX3_comes 10 = .ok (.iload_n 1, 1) := dk_27 (dk_at dksX3_comes_0 10 rfl rfl)
theorem dX3_comes_11 : decode cX3_comes 11 = .ok (.invokevirtual 42, 3) := dk_182 0 42 (dk_at dksX3_comes_0 11 rfl rfl)
theorem dX3_comes_14 : decode cX3_comes 14 = .ok (.checkcast 48, 3) := dk_192 0 48 (dk_at dksX3_comes_0 14 rfl rfl)
theorem dX3_comes_17 : decode cX3_comes 17 = .ok (.aload_n 0, 1) := dk_42 (dk_at dksX3_comes_0 17 rfl rfl)
theorem dX3_comes_18 : decode cX3_comes 18 = .ok (.getfield 3, 3) := dk_180 0 3 (dk_at dksX3_comes_0 18 rfl rfl)
theorem dX3_comes_21 : decode cX3_comes 21 = .ok (.getfield 32, 3) := dk_180 0 32 (dk_at dksX3_comes_0 21 rfl rfl)
theorem dX3_comes_24 : decode cX3_comes 24 = .ok (.aload_n 0, 1) := dk_42 (dk_at dksX3_comes_1 0 rfl rfl)
theorem dX3_comes_25 : decode cX3_comes 25 = .ok (.getfield 50, 3) := dk_180 0 50 (dk_at dksX3_comes_1 1 rfl rfl)
theorem dX3_comes_28 : decode cX3_comes 28 = .ok (.invokevirtual 54, 3) := dk_182 0 54 (dk_at dksX3_comes_1 4 rfl rfl)
theorem dX3_comes_31 : decode cX3_comes 31 = .ok (.istore_n 2, 1) := dk_61 (dk_at dksX3_comes_1 7 rfl rfl)
theorem dX3_comes_32 : decode cX3_comes 32 = .ok (.iload_n 2, 1) := dk_28 (dk_at dksX3_comes_1 8 rfl rfl)
theorem dX3_comes_33 : decode cX3_comes 33 = .ok (.iconst (-1), 1) := dk_2 (dk_at dksX3_comes_1 9 rfl rfl)
theorem dX3_comes_34 : decode cX3_comes 34 = .ok (.if_icmp .ne 4, 3) := dk_160 0 4 (dk_at dksX3_comes_1 10 rfl rfl)
theorem dX3_comes_37 : decode cX3_comes 37 = .ok (.return_, 1) := dk_177 (dk_at dksX3_comes_1 13 rfl rfl)
theorem dX3_comes_38 : decode cX3_comes 38 = .ok (.aload_n 0, 1) := dk_42 (dk_at dksX3_comes_1 14 rfl rfl)
theorem dX3_comes_39 : decode cX3_comes 39 = .ok (.dup, 1) := dk_89 (dk_at dksX3_comes_1 15 rfl rfl)
theorem dX3_comes_40 : decode cX3_comes 40 = .ok (.getfield 50, 3) := dk_180 0 50 (dk_at dksX3_comes_1 16 rfl rfl)
theorem dX3_comes_43 : decode cX3_comes 43 = .ok (.iconst 1, 1) := dk_4 (dk_at dksX3_comes_1 19 rfl rfl)
theorem dX3_comes_44 : decode cX3_comes 44 = .ok (.iload_n 2, 1) := dk_28 (dk_at dksX3_comes_1 20 rfl rfl)
theorem dX3_comes_45 : decode cX3_comes 45 = .ok (.ishl, 1) := dk_120 (dk_at dksX3_comes_1 21 rfl rfl)
theorem dX3_comes_46 : decode cX3_comes 46 = .ok (.ior, 1) := dk_128 (dk_at dksX3_comes_1 22 rfl rfl)
theorem dX3_comes_47 : decode cX3_comes 47 = .ok (.putfield 50, 3) := dk_181 0 50 (dk_at dksX3_comes_2 0 rfl rfl)
theorem dX3_comes_50 : decode cX3_comes 50 = .ok (.aload_n 0, 1) := dk_42 (dk_at dksX3_comes_2 3 rfl rfl)
theorem dX3_comes_51 : decode cX3_comes 51 = .ok (.getfield 15, 3) := dk_180 0 15 (dk_at dksX3_comes_2 4 rfl rfl)
theorem dX3_comes_54 : decode cX3_comes 54 = .ok (.iload_n 2, 1) := dk_28 (dk_at dksX3_comes_2 7 rfl rfl)
theorem dX3_comes_55 : decode cX3_comes 55 = .ok (.dup2, 1) := dk_92 (dk_at dksX3_comes_2 8 rfl rfl)
theorem dX3_comes_56 : decode cX3_comes 56 = .ok (.iaload, 1) := dk_46 (dk_at dksX3_comes_2 9 rfl rfl)
theorem dX3_comes_57 : decode cX3_comes 57 = .ok (.iconst 1, 1) := dk_4 (dk_at dksX3_comes_2 10 rfl rfl)
theorem dX3_comes_58 : decode cX3_comes 58 = .ok (.iadd, 1) := dk_96 (dk_at dksX3_comes_2 11 rfl rfl)
theorem dX3_comes_59 : decode cX3_comes 59 = .ok (.iastore, 1) := dk_79 (dk_at dksX3_comes_2 12 rfl rfl)
theorem dX3_comes_60 : decode cX3_comes 60 = .ok (.aload_n 0, 1) := dk_42 (dk_at dksX3_comes_2 13 rfl rfl)
theorem dX3_comes_61 : decode cX3_comes 61 = .ok (.getfield 19, 3) := dk_180 0 19 (dk_at dksX3_comes_2 14 rfl rfl)
theorem dX3_comes_64 : decode cX3_comes 64 = .ok (.iload_n 1, 1) := dk_27 (dk_at dksX3_comes_2 17 rfl rfl)
theorem dX3_comes_65 : decode cX3_comes 65 = .ok (.dup2, 1) := dk_92 (dk_at dksX3_comes_2 18 rfl rfl)
theorem dX3_comes_66 : decode cX3_comes 66 = .ok (.iaload, 1) := dk_46 (dk_at dksX3_comes_2 19 rfl rfl)
theorem dX3_comes_67 : decode cX3_comes 67 = .ok (.iconst 1, 1) := dk_4 (dk_at dksX3_comes_2 20 rfl rfl)
theorem dX3_comes_68 : decode cX3_comes 68 = .ok (.iadd, 1) := dk_96 (dk_at dksX3_comes_2 21 rfl rfl)
theorem dX3_comes_69 : decode cX3_comes 69 = .ok (.iastore, 1) := dk_79 (dk_at dksX3_comes_2 22 rfl rfl)
theorem dX3_comes_70 : decode cX3_comes 70 = .ok (.return_, 1) := dk_177 (dk_at dksX3_comes_2 23 rfl rfl)
abbrev cX3_many : ByteArray := prog_18_method_6_code
def yX3_many : MethodName := ⟨RX3, "many", "()I"⟩
def dkwX3_many_1 : List UInt8 := [167, 255, 238, 27, 172]
abbrev dktX3_many_1 : List UInt8 := dkwX3_many_1 ++ []
def dkwX3_many_0 : List UInt8 := [3, 60, 3, 61, 28, 16, 10, 162, 0, 18, 27, 42, 180, 0, 15, 28, 46, 96, 60, 132, 2, 1]
abbrev dktX3_many_0 : List UInt8 := dkwX3_many_0 ++ dktX3_many_1
theorem dksX3_many_0 : cX3_many.data.toList.drop 0 = dktX3_many_0 := by decide +kernel
theorem dksX3_many_1 : cX3_many.data.toList.drop 22 = dktX3_many_1 := dk_seg dksX3_many_0 22 rfl rfl
theorem dX3_many_0 : decode cX3_many 0 = .ok (.iconst 0, 1) := dk_3 (dk_at dksX3_many_0 0 rfl rfl)
theorem dX3_many_1 : decode cX3_many 1 = .ok (.istore_n 1, 1) := dk_60 (dk_at dksX3_many_0 1 rfl rfl)
theorem dX3_many_2 : decode cX3_many 2 = .ok (.iconst 0, 1) := dk_3 (dk_at dksX3_many_0 2 rfl rfl)
theorem dX3_many_3 : decode cX3_many 3 = .ok (.istore_n 2, 1) := dk_61 (dk_at dksX3_many_0 3 rfl rfl)
theorem dX3_many_4 : decode cX3_many 4 = .ok (.iload_n 2, 1) := dk_28 (dk_at dksX3_many_0 4 rfl rfl)
theorem dX3_many_5 : decode cX3_many 5 = .ok (.bipush 10, 2) := dk_16 10 (dk_at dksX3_many_0 5 rfl rfl)
theorem dX3_many_7 : decode cX3_many 7 = .ok (.if_icmp .ge 18, 3) := dk_162 0 18 (dk_at dksX3_many_0 7 rfl rfl)
theorem dX3_many_10 : decode cX3_many 10 = .ok (.iload_n 1, 1) := dk_27 (dk_at dksX3_many_0 10 rfl rfl)
theorem dX3_many_11 : decode cX3_many 11 = .ok (.aload_n 0, 1) := dk_42 (dk_at dksX3_many_0 11 rfl rfl)
theorem dX3_many_12 : decode cX3_many 12 = .ok (.getfield 15, 3) := dk_180 0 15 (dk_at dksX3_many_0 12 rfl rfl)
theorem dX3_many_15 : decode cX3_many 15 = .ok (.iload_n 2, 1) := dk_28 (dk_at dksX3_many_0 15 rfl rfl)
theorem dX3_many_16 : decode cX3_many 16 = .ok (.iaload, 1) := dk_46 (dk_at dksX3_many_0 16 rfl rfl)
theorem dX3_many_17 : decode cX3_many 17 = .ok (.iadd, 1) := dk_96 (dk_at dksX3_many_0 17 rfl rfl)
theorem dX3_many_18 : decode cX3_many 18 = .ok (.istore_n 1, 1) := dk_60 (dk_at dksX3_many_0 18 rfl rfl)
theorem dX3_many_19 : decode cX3_many 19 = .ok (.iinc 2 1, 3) := dk_132 2 1 (dk_at dksX3_many_0 19 rfl rfl)
theorem dX3_many_22 : decode cX3_many 22 = .ok (.goto (-18), 3) := dk_167 255 238 (dk_at dksX3_many_1 0 rfl rfl)
theorem dX3_many_25 : decode cX3_many 25 = .ok (.iload_n 1, 1) := dk_27 (dk_at dksX3_many_1 3 rfl rfl)
theorem dX3_many_26 : decode cX3_many 26 = .ok (.ireturn, 1) := dk_172 (dk_at dksX3_many_1 4 rfl rfl)
abbrev cX3_worth : ByteArray := prog_18_method_7_code
def yX3_worth : MethodName := ⟨RX3, "worth", "()J"⟩
def dkwX3_worth_2 : List UInt8 := [97, 64, 132, 3, 1, 167, 255, 207, 31, 173]
abbrev dktX3_worth_2 : List UInt8 := dkwX3_worth_2 ++ []
def dkwX3_worth_1 : List UInt8 := [46, 133, 42, 180, 0, 3, 180, 0, 32, 180, 0, 85, 29, 182, 0, 42, 192, 0, 88, 180, 0, 90, 133, 105]
abbrev dktX3_worth_1 : List UInt8 := dkwX3_worth_1 ++ dktX3_worth_2
def dkwX3_worth_0 : List UInt8 := [9, 64, 3, 62, 29, 42, 180, 0, 3, 180, 0, 32, 182, 0, 82, 162, 0, 41, 31, 42, 180, 0, 15, 29]
abbrev dktX3_worth_0 : List UInt8 := dkwX3_worth_0 ++ dktX3_worth_1
theorem dksX3_worth_0 : cX3_worth.data.toList.drop 0 = dktX3_worth_0 := by decide +kernel
theorem dksX3_worth_1 : cX3_worth.data.toList.drop 24 = dktX3_worth_1 := dk_seg dksX3_worth_0 24 rfl rfl
theorem dksX3_worth_2 : cX3_worth.data.toList.drop 48 = dktX3_worth_2 := dk_seg dksX3_worth_1 24 rfl rfl
theorem dX3_worth_0 : decode cX3_worth 0 = .ok (.lconst 0, 1) := dk_9 (dk_at dksX3_worth_0 0 rfl rfl)
theorem dX3_worth_1 : decode cX3_worth 1 = .ok (.lstore_n 1, 1) := dk_64 (dk_at dksX3_worth_0 1 rfl rfl)
theorem dX3_worth_2 : decode cX3_worth 2 = .ok (.iconst 0, 1) := dk_3 (dk_at dksX3_worth_0 2 rfl rfl)
theorem dX3_worth_3 : decode cX3_worth 3 = .ok (.istore_n 3, 1) := dk_62 (dk_at dksX3_worth_0 3 rfl rfl)
theorem dX3_worth_4 : decode cX3_worth 4 = .ok (.iload_n 3, 1) := dk_29 (dk_at dksX3_worth_0 4 rfl rfl)
theorem dX3_worth_5 : decode cX3_worth 5 = .ok (.aload_n 0, 1) := dk_42 (dk_at dksX3_worth_0 5 rfl rfl)
theorem dX3_worth_6 : decode cX3_worth 6 = .ok (.getfield 3, 3) := dk_180 0 3 (dk_at dksX3_worth_0 6 rfl rfl)
theorem dX3_worth_9 : decode cX3_worth 9 = .ok (.getfield 32, 3) := dk_180 0 32 (dk_at dksX3_worth_0 9 rfl rfl)
theorem dX3_worth_12 : decode cX3_worth 12 = .ok (.invokevirtual 82, 3) := dk_182 0 82 (dk_at dksX3_worth_0 12 rfl rfl)
theorem dX3_worth_15 : decode cX3_worth 15 = .ok (.if_icmp .ge 41, 3) := dk_162 0 41 (dk_at dksX3_worth_0 15 rfl rfl)
theorem dX3_worth_18 : decode cX3_worth 18 = .ok (.lload_n 1, 1) := dk_31 (dk_at dksX3_worth_0 18 rfl rfl)
theorem dX3_worth_19 : decode cX3_worth 19 = .ok (.aload_n 0, 1) := dk_42 (dk_at dksX3_worth_0 19 rfl rfl)
theorem dX3_worth_20 : decode cX3_worth 20 = .ok (.getfield 15, 3) := dk_180 0 15 (dk_at dksX3_worth_0 20 rfl rfl)
theorem dX3_worth_23 : decode cX3_worth 23 = .ok (.iload_n 3, 1) := dk_29 (dk_at dksX3_worth_0 23 rfl rfl)
theorem dX3_worth_24 : decode cX3_worth 24 = .ok (.iaload, 1) := dk_46 (dk_at dksX3_worth_1 0 rfl rfl)
theorem dX3_worth_25 : decode cX3_worth 25 = .ok (.i2l, 1) := dk_133 (dk_at dksX3_worth_1 1 rfl rfl)
theorem dX3_worth_26 : decode cX3_worth 26 = .ok (.aload_n 0, 1) := dk_42 (dk_at dksX3_worth_1 2 rfl rfl)
theorem dX3_worth_27 : decode cX3_worth 27 = .ok (.getfield 3, 3) := dk_180 0 3 (dk_at dksX3_worth_1 3 rfl rfl)
theorem dX3_worth_30 : decode cX3_worth 30 = .ok (.getfield 32, 3) := dk_180 0 32 (dk_at dksX3_worth_1 6 rfl rfl)
theorem dX3_worth_33 : decode cX3_worth 33 = .ok (.getfield 85, 3) := dk_180 0 85 (dk_at dksX3_worth_1 9 rfl rfl)
theorem dX3_worth_36 : decode cX3_worth 36 = .ok (.iload_n 3, 1) := dk_29 (dk_at dksX3_worth_1 12 rfl rfl)
theorem dX3_worth_37 : decode cX3_worth 37 = .ok (.invokevirtual 42, 3) := dk_182 0 42 (dk_at dksX3_worth_1 13 rfl rfl)
theorem dX3_worth_40 : decode cX3_worth 40 = .ok (.checkcast 88, 3) := dk_192 0 88 (dk_at dksX3_worth_1 16 rfl rfl)
theorem dX3_worth_43 : decode cX3_worth 43 = .ok (.getfield 90, 3) := dk_180 0 90 (dk_at dksX3_worth_1 19 rfl rfl)
theorem dX3_worth_46 : decode cX3_worth 46 = .ok (.i2l, 1) := dk_133 (dk_at dksX3_worth_1 22 rfl rfl)
theorem dX3_worth_47 : decode cX3_worth 47 = .ok (.lmul, 1) := dk_105 (dk_at dksX3_worth_1 23 rfl rfl)
theorem dX3_worth_48 : decode cX3_worth 48 = .ok (.ladd, 1) := dk_97 (dk_at dksX3_worth_2 0 rfl rfl)
theorem dX3_worth_49 : decode cX3_worth 49 = .ok (.lstore_n 1, 1) := dk_64 (dk_at dksX3_worth_2 1 rfl rfl)
theorem dX3_worth_50 : decode cX3_worth 50 = .ok (.iinc 3 1, 3) := dk_132 3 1 (dk_at dksX3_worth_2 2 rfl rfl)
theorem dX3_worth_53 : decode cX3_worth 53 = .ok (.goto (-49), 3) := dk_167 255 207 (dk_at dksX3_worth_2 5 rfl rfl)
theorem dX3_worth_56 : decode cX3_worth 56 = .ok (.lload_n 1, 1) := dk_31 (dk_at dksX3_worth_2 8 rfl rfl)
theorem dX3_worth_57 : decode cX3_worth 57 = .ok (.lreturn, 1) := dk_173 (dk_at dksX3_worth_2 9 rfl rfl)
abbrev cX3_be : ByteArray := prog_18_method_2_code
def yX3_be : MethodName := ⟨RX3, "be", "(LLockRail$Year;)V"⟩
def dkwX3_be_1 : List UInt8 := [3, 16, 6, 184, 0, 22, 42, 43, 180, 0, 28, 181, 0, 28, 177]
abbrev dktX3_be_1 : List UInt8 := dkwX3_be_1 ++ []
def dkwX3_be_0 : List UInt8 := [43, 180, 0, 15, 3, 42, 180, 0, 15, 3, 16, 10, 184, 0, 22, 43, 180, 0, 19, 3, 42, 180, 0, 19]
abbrev dktX3_be_0 : List UInt8 := dkwX3_be_0 ++ dktX3_be_1
theorem dksX3_be_0 : cX3_be.data.toList.drop 0 = dktX3_be_0 := by decide +kernel
theorem dksX3_be_1 : cX3_be.data.toList.drop 24 = dktX3_be_1 := dk_seg dksX3_be_0 24 rfl rfl
theorem dX3_be_0 : decode cX3_be 0 = .ok (.aload_n 1, 1) := dk_43 (dk_at dksX3_be_0 0 rfl rfl)
theorem dX3_be_1 : decode cX3_be 1 = .ok (.getfield 15, 3) := dk_180 0 15 (dk_at dksX3_be_0 1 rfl rfl)
theorem dX3_be_4 : decode cX3_be 4 = .ok (.iconst 0, 1) := dk_3 (dk_at dksX3_be_0 4 rfl rfl)
theorem dX3_be_5 : decode cX3_be 5 = .ok (.aload_n 0, 1) := dk_42 (dk_at dksX3_be_0 5 rfl rfl)
theorem dX3_be_6 : decode cX3_be 6 = .ok (.getfield 15, 3) := dk_180 0 15 (dk_at dksX3_be_0 6 rfl rfl)
theorem dX3_be_9 : decode cX3_be 9 = .ok (.iconst 0, 1) := dk_3 (dk_at dksX3_be_0 9 rfl rfl)
theorem dX3_be_10 : decode cX3_be 10 = .ok (.bipush 10, 2) := dk_16 10 (dk_at dksX3_be_0 10 rfl rfl)
theorem dX3_be_12 : decode cX3_be 12 = .ok (.invokestatic 22, 3) := dk_184 0 22 (dk_at dksX3_be_0 12 rfl rfl)
theorem dX3_be_15 : decode cX3_be 15 = .ok (.aload_n 1, 1) := dk_43 (dk_at dksX3_be_0 15 rfl rfl)
theorem dX3_be_16 : decode cX3_be 16 = .ok (.getfield 19, 3) := dk_180 0 19 (dk_at dksX3_be_0 16 rfl rfl)
theorem dX3_be_19 : decode cX3_be 19 = .ok (.iconst 0, 1) := dk_3 (dk_at dksX3_be_0 19 rfl rfl)
theorem dX3_be_20 : decode cX3_be 20 = .ok (.aload_n 0, 1) := dk_42 (dk_at dksX3_be_0 20 rfl rfl)
theorem dX3_be_21 : decode cX3_be 21 = .ok (.getfield 19, 3) := dk_180 0 19 (dk_at dksX3_be_0 21 rfl rfl)
theorem dX3_be_24 : decode cX3_be 24 = .ok (.iconst 0, 1) := dk_3 (dk_at dksX3_be_1 0 rfl rfl)
theorem dX3_be_25 : decode cX3_be 25 = .ok (.bipush 6, 2) := dk_16 6 (dk_at dksX3_be_1 1 rfl rfl)
theorem dX3_be_27 : decode cX3_be 27 = .ok (.invokestatic 22, 3) := dk_184 0 22 (dk_at dksX3_be_1 3 rfl rfl)
theorem dX3_be_30 : decode cX3_be 30 = .ok (.aload_n 0, 1) := dk_42 (dk_at dksX3_be_1 6 rfl rfl)
theorem dX3_be_31 : decode cX3_be 31 = .ok (.aload_n 1, 1) := dk_43 (dk_at dksX3_be_1 7 rfl rfl)
theorem dX3_be_32 : decode cX3_be 32 = .ok (.getfield 28, 3) := dk_180 0 28 (dk_at dksX3_be_1 8 rfl rfl)
theorem dX3_be_35 : decode cX3_be 35 = .ok (.putfield 28, 3) := dk_181 0 28 (dk_at dksX3_be_1 11 rfl rfl)
theorem dX3_be_38 : decode cX3_be 38 = .ok (.return_, 1) := dk_177 (dk_at dksX3_be_1 14 rfl rfl)
theorem q146 : (Jvm.Cond.initialized "LockRail$Year") ∈ lw_all := lw_g (lw_at lw_m1 7 rfl) rfl
theorem q227 : (Jvm.Cond.fieldLinkNest "LockRail$Year" (66 : Nat) "LockRail$Rail" "nights" "I" "LockRail") ∈ lw_tbl := lw_at lw_m1 88 rfl
theorem q260 : (Jvm.Cond.fieldLinkNest "LockRail$Year" (85 : Nat) "LockRail$Rail" "bikes" "Ljava/util/ArrayList;" "LockRail") ∈ lw_tbl := lw_at lw_m1 121 rfl
theorem q266 : (Jvm.Cond.fieldLinkNest "LockRail$Year" (36 : Nat) "LockRail$Rail" "thieves" "Ljava/util/ArrayList;" "LockRail") ∈ lw_tbl := lw_at lw_m1 127 rfl
theorem q349 : (Jvm.Cond.instantiable "LockRail$Year" (5 : Nat)) ∈ lw_all := lw_g (lw_at lw_m1 210 rfl) rfl
theorem q351 : (Jvm.Cond.instanceMethod ({ cls := "LockRail$Year", name := "<init>", desc := "(LLockRail;)V" } : Jvm.MethodName)) ∈ lw_all := lw_g (lw_at lw_m1 212 rfl) rfl
theorem q352 : (Jvm.Cond.code ({ cls := "LockRail$Year", name := "<init>", desc := "(LLockRail;)V" } : Jvm.MethodName) prog_18_method_1_code (2 : Nat) (Option.none : Option Jvm.ClassFile.FieldType)) ∈ lw_all := lw_g (lw_at lw_m1 213 rfl) rfl
theorem q353 : (Jvm.Cond.methodLink "LockRail$Year" (9 : Nat) ({ cls := "java/lang/Object", name := "<init>", desc := "()V" } : Jvm.MethodName)) ∈ lw_all := lw_g (lw_at lw_m1 214 rfl) rfl
theorem q354 : (Jvm.Cond.fieldLink "LockRail$Year" (15 : Nat) "LockRail$Year" "taken" "[I") ∈ lw_all := lw_g (lw_at lw_m1 215 rfl) rfl
theorem q356 : (Jvm.Cond.fieldLink "LockRail$Year" (19 : Nat) "LockRail$Year" "took" "[I") ∈ lw_all := lw_g (lw_at lw_m1 217 rfl) rfl
theorem q358 : (Jvm.Cond.fieldLink "LockRail$Year" (28 : Nat) "LockRail$Year" "isThere" "Z") ∈ lw_all := lw_g (lw_at lw_m1 219 rfl) rfl
theorem q360 : (Jvm.Cond.fieldLink "LockRail$Year" (50 : Nat) "LockRail$Year" "gone" "I") ∈ lw_all := lw_g (lw_at lw_m1 221 rfl) rfl
theorem q362 : (Jvm.Cond.fieldLink "LockRail$Year" (3 : Nat) "LockRail$Year" "this$0" "LLockRail;") ∈ lw_all := lw_g (lw_at lw_m1 223 rfl) rfl
theorem q363 : (Jvm.Cond.laysFinal "LockRail$Year" "LockRail$Year" "taken" "[I") ∈ lw_all := lw_g (lw_at lw_m1 224 rfl) rfl
theorem q364 : (Jvm.Cond.soleField "LockRail$Year" "taken") ∈ lw_all := lw_g (lw_at lw_m1 225 rfl) rfl
theorem q365 : (Jvm.Cond.laysFinal "LockRail$Year" "LockRail$Year" "took" "[I") ∈ lw_all := lw_g (lw_at lw_m1 226 rfl) rfl
theorem q366 : (Jvm.Cond.soleField "LockRail$Year" "took") ∈ lw_all := lw_g (lw_at lw_m1 227 rfl) rfl
theorem q367 : (Jvm.Cond.lays "LockRail$Year" "LockRail$Year" "isThere" "Z") ∈ lw_all := lw_g (lw_at lw_m1 228 rfl) rfl
theorem q368 : (Jvm.Cond.soleField "LockRail$Year" "isThere") ∈ lw_all := lw_g (lw_at lw_m1 229 rfl) rfl
theorem q369 : (Jvm.Cond.lays "LockRail$Year" "LockRail$Year" "gone" "I") ∈ lw_all := lw_g (lw_at lw_m1 230 rfl) rfl
theorem q370 : (Jvm.Cond.soleField "LockRail$Year" "gone") ∈ lw_all := lw_g (lw_at lw_m1 231 rfl) rfl
theorem q371 : (Jvm.Cond.laysFinal "LockRail$Year" "LockRail$Year" "this$0" "LLockRail;") ∈ lw_all := lw_g (lw_at lw_m1 232 rfl) rfl
theorem q372 : (Jvm.Cond.soleField "LockRail$Year" "this$0") ∈ lw_all := lw_g (lw_at lw_m1 233 rfl) rfl
theorem q373 : (Jvm.Cond.superclass "LockRail$Year" "java/lang/Object") ∈ lw_all := lw_g (lw_at lw_m1 234 rfl) rfl
theorem q409 : (Jvm.Cond.fieldLinkNest "LockRail$Year" (32 : Nat) "LockRail" "rail" "LLockRail$Rail;" "LockRail") ∈ lw_tbl := lw_at lw_m2 30 rfl
theorem q781 : (Jvm.Cond.selects "LockRail$Year" ({ cls := "java/lang/Object", name := "getClass", desc := "()Ljava/lang/Class;" } : Jvm.MethodName) ({ cls := "java/lang/Object", name := "getClass", desc := "()Ljava/lang/Class;" } : Jvm.MethodName)) ∈ lw_all := lw_g (lw_at lw_m3 162 rfl) rfl
theorem q854 : (Jvm.Cond.fieldLinkNest "LockRail$Year" (90 : Nat) "LockRail$Bike" "worth" "I" "LockRail") ∈ lw_tbl := lw_at lw_m3 235 rfl
theorem q906 : (Jvm.Cond.fieldLink "LockRail$Year" (76 : Nat) "LockRail$Thief" "comes" "I") ∈ lw_all := lw_g (lw_at lw_m4 47 rfl) rfl
theorem q1505 : (Jvm.Cond.instanceMethod ({ cls := "LockRail$Year", name := "drawn", desc := "(J)V" } : Jvm.MethodName)) ∈ lw_all := lw_g (lw_at lw_m6 166 rfl) rfl
theorem q1506 : (Jvm.Cond.selects "LockRail$Year" ({ cls := "LockRail$Year", name := "drawn", desc := "(J)V" } : Jvm.MethodName) ({ cls := "LockRail$Year", name := "drawn", desc := "(J)V" } : Jvm.MethodName)) ∈ lw_all := lw_g (lw_at lw_m6 167 rfl) rfl
theorem q1507 : (Jvm.Cond.code ({ cls := "LockRail$Year", name := "drawn", desc := "(J)V" } : Jvm.MethodName) prog_18_method_5_code (6 : Nat) (Option.none : Option Jvm.ClassFile.FieldType)) ∈ lw_all := lw_g (lw_at lw_m6 168 rfl) rfl
theorem q1508 : (Jvm.Cond.classLink "LockRail$Year" (58 : Nat) "LockRail$Draws") ∈ lw_all := lw_g (lw_at lw_m6 169 rfl) rfl
theorem q1510 : (Jvm.Cond.methodLink "LockRail$Year" (60 : Nat) ({ cls := "LockRail$Draws", name := "<init>", desc := "(J)V" } : Jvm.MethodName)) ∈ lw_all := lw_g (lw_at lw_m6 171 rfl) rfl
theorem q1518 : (Jvm.Cond.methodLink "LockRail$Year" (63 : Nat) ({ cls := "LockRail$Year", name := "begin", desc := "()V" } : Jvm.MethodName)) ∈ lw_all := lw_g (lw_at lw_m6 179 rfl) rfl
theorem q1519 : (Jvm.Cond.instanceMethod ({ cls := "LockRail$Year", name := "begin", desc := "()V" } : Jvm.MethodName)) ∈ lw_all := lw_g (lw_at lw_m6 180 rfl) rfl
theorem q1520 : (Jvm.Cond.selects "LockRail$Year" ({ cls := "LockRail$Year", name := "begin", desc := "()V" } : Jvm.MethodName) ({ cls := "LockRail$Year", name := "begin", desc := "()V" } : Jvm.MethodName)) ∈ lw_all := lw_g (lw_at lw_m6 181 rfl) rfl
theorem q1521 : (Jvm.Cond.code ({ cls := "LockRail$Year", name := "begin", desc := "()V" } : Jvm.MethodName) prog_18_method_3_code (2 : Nat) (Option.none : Option Jvm.ClassFile.FieldType)) ∈ lw_all := lw_g (lw_at lw_m6 182 rfl) rfl
theorem q1522 : (Jvm.Cond.methodLink "LockRail$Year" (69 : Nat) ({ cls := "java/util/ArrayList", name := "size", desc := "()I" } : Jvm.MethodName)) ∈ lw_all := lw_g (lw_at lw_m6 183 rfl) rfl
theorem q1523 : (Jvm.Cond.methodLink "LockRail$Year" (73 : Nat) ({ cls := "LockRail$Draws", name := "next", desc := "()I" } : Jvm.MethodName)) ∈ lw_all := lw_g (lw_at lw_m6 184 rfl) rfl
theorem q1532 : (Jvm.Cond.methodLink "LockRail$Year" (42 : Nat) ({ cls := "java/util/ArrayList", name := "get", desc := "(I)Ljava/lang/Object;" } : Jvm.MethodName)) ∈ lw_all := lw_g (lw_at lw_m6 193 rfl) rfl
theorem q1533 : (Jvm.Cond.classLink "LockRail$Year" (48 : Nat) "LockRail$Thief") ∈ lw_all := lw_g (lw_at lw_m6 194 rfl) rfl
theorem q1534 : (Jvm.Cond.methodLink "LockRail$Year" (79 : Nat) ({ cls := "LockRail$Year", name := "comes", desc := "(I)V" } : Jvm.MethodName)) ∈ lw_all := lw_g (lw_at lw_m6 195 rfl) rfl
theorem q1535 : (Jvm.Cond.instanceMethod ({ cls := "LockRail$Year", name := "comes", desc := "(I)V" } : Jvm.MethodName)) ∈ lw_all := lw_g (lw_at lw_m6 196 rfl) rfl
theorem q1536 : (Jvm.Cond.selects "LockRail$Year" ({ cls := "LockRail$Year", name := "comes", desc := "(I)V" } : Jvm.MethodName) ({ cls := "LockRail$Year", name := "comes", desc := "(I)V" } : Jvm.MethodName)) ∈ lw_all := lw_g (lw_at lw_m6 197 rfl) rfl
theorem q1537 : (Jvm.Cond.code ({ cls := "LockRail$Year", name := "comes", desc := "(I)V" } : Jvm.MethodName) prog_18_method_4_code (3 : Nat) (Option.none : Option Jvm.ClassFile.FieldType)) ∈ lw_all := lw_g (lw_at lw_m6 198 rfl) rfl
theorem q1538 : (Jvm.Cond.methodLink "LockRail$Year" (54 : Nat) ({ cls := "LockRail$Thief", name := "takes", desc := "(LLockRail$Rail;I)I" } : Jvm.MethodName)) ∈ lw_all := lw_g (lw_at lw_m6 199 rfl) rfl
theorem q1540 : (Jvm.Cond.instanceMethod ({ cls := "LockRail$Year", name := "many", desc := "()I" } : Jvm.MethodName)) ∈ lw_all := lw_g (lw_at lw_m6 201 rfl) rfl
theorem q1541 : (Jvm.Cond.selects "LockRail$Year" ({ cls := "LockRail$Year", name := "many", desc := "()I" } : Jvm.MethodName) ({ cls := "LockRail$Year", name := "many", desc := "()I" } : Jvm.MethodName)) ∈ lw_all := lw_g (lw_at lw_m6 202 rfl) rfl
theorem q1542 : (Jvm.Cond.code ({ cls := "LockRail$Year", name := "many", desc := "()I" } : Jvm.MethodName) prog_18_method_6_code (3 : Nat) (Option.some Jvm.ClassFile.FieldType.int)) ∈ lw_all := lw_g (lw_at lw_m6 203 rfl) rfl
theorem q1608 : (Jvm.Cond.instanceMethod ({ cls := "LockRail$Year", name := "worth", desc := "()J" } : Jvm.MethodName)) ∈ lw_all := lw_g (lw_at lw_m7 29 rfl) rfl
theorem q1609 : (Jvm.Cond.selects "LockRail$Year" ({ cls := "LockRail$Year", name := "worth", desc := "()J" } : Jvm.MethodName) ({ cls := "LockRail$Year", name := "worth", desc := "()J" } : Jvm.MethodName)) ∈ lw_all := lw_g (lw_at lw_m7 30 rfl) rfl
theorem q1610 : (Jvm.Cond.code ({ cls := "LockRail$Year", name := "worth", desc := "()J" } : Jvm.MethodName) prog_18_method_7_code (4 : Nat) (Option.some Jvm.ClassFile.FieldType.long)) ∈ lw_all := lw_g (lw_at lw_m7 31 rfl) rfl
theorem q1611 : (Jvm.Cond.methodLink "LockRail$Year" (82 : Nat) ({ cls := "LockRail$Rail", name := "many", desc := "()I" } : Jvm.MethodName)) ∈ lw_all := lw_g (lw_at lw_m7 32 rfl) rfl
theorem q1612 : (Jvm.Cond.classLink "LockRail$Year" (88 : Nat) "LockRail$Bike") ∈ lw_all := lw_g (lw_at lw_m7 33 rfl) rfl
theorem q1651 : (Jvm.Cond.instanceMethod ({ cls := "LockRail$Year", name := "be", desc := "(LLockRail$Year;)V" } : Jvm.MethodName)) ∈ lw_all := lw_g (lw_at lw_m7 72 rfl) rfl
theorem q1652 : (Jvm.Cond.selects "LockRail$Year" ({ cls := "LockRail$Year", name := "be", desc := "(LLockRail$Year;)V" } : Jvm.MethodName) ({ cls := "LockRail$Year", name := "be", desc := "(LLockRail$Year;)V" } : Jvm.MethodName)) ∈ lw_all := lw_g (lw_at lw_m7 73 rfl) rfl
theorem q1653 : (Jvm.Cond.code ({ cls := "LockRail$Year", name := "be", desc := "(LLockRail$Year;)V" } : Jvm.MethodName) prog_18_method_2_code (2 : Nat) (Option.none : Option Jvm.ClassFile.FieldType)) ∈ lw_all := lw_g (lw_at lw_m7 74 rfl) rfl
theorem q1654 : (Jvm.Cond.methodLink "LockRail$Year" (22 : Nat) ({ cls := "java/lang/System", name := "arraycopy", desc := "(Ljava/lang/Object;ILjava/lang/Object;II)V" } : Jvm.MethodName)) ∈ lw_all := lw_g (lw_at lw_m7 75 rfl) rfl
theorem q2543 : (Jvm.Cond.castable "LockRail$Year" "java/lang/Object") ∈ lw_tbl := lw_at lw_m11 4 rfl
theorem in_X3 : ∀ w ∈ wsX30, w ∈ lw_all := lw_in wsX30 [363, 365, 367, 369, 371] (by decide +kernel) (by decide +kernel)

/-! LockRail$Slot -/
set_option maxRecDepth 100000
def RX4 : String := "LockRail$Slot"
def TX4 : u_T := fun k => match k with
  | _ => ("LockRail$Slot", "row", "Ljava/lang/Object;", false)
def tyX4 : Nat → FieldType := fun k => match k with
  | _ => .object "java/lang/Object"
abbrev wsX40 : List Cond := u_ws RX4 TX4 1
theorem nmX4 : ∀ a, a < 1 → ∀ b, b < 1 → a ≠ b → (TX4 a).2.1 ≠ (TX4 b).2.1 := by decide +kernel
theorem tyX4_ok : ∀ k, k < 1 → parseFieldDescriptor (TX4 k).2.2.1 = some (tyX4 k) := by decide +kernel
abbrev cX4_init : ByteArray := prog_15_method_1_code
def yX4_init : MethodName := ⟨RX4, "<init>", "()V"⟩
theorem dX4_init_0 : decode cX4_init 0 = .ok (.aload_n 0, 1) := by decide +kernel
theorem dX4_init_1 : decode cX4_init 1 = .ok (.invokespecial 1, 3) := by decide +kernel
theorem dX4_init_4 : decode cX4_init 4 = .ok (.return_, 1) := by decide +kernel
abbrev cX4_size : ByteArray := prog_15_method_3_code
def yX4_size : MethodName := ⟨RX4, "size", "()I"⟩
def dkwX4_size_3 : List UInt8 := [190, 172]
abbrev dktX4_size_3 : List UInt8 := dkwX4_size_3 ++ []
def dkwX4_size_2 : List UInt8 := [193, 0, 17, 153, 0, 14, 42, 180, 0, 7, 192, 0, 17, 190, 167, 0, 11, 42, 180, 0, 7, 192, 0, 19]
abbrev dktX4_size_2 : List UInt8 := dkwX4_size_2 ++ dktX4_size_3
def dkwX4_size_1 : List UInt8 := [180, 0, 7, 193, 0, 15, 153, 0, 14, 42, 180, 0, 7, 192, 0, 15, 190, 167, 0, 32, 42, 180, 0, 7]
abbrev dktX4_size_1 : List UInt8 := dkwX4_size_1 ++ dktX4_size_2
def dkwX4_size_0 : List UInt8 := [42, 180, 0, 7, 193, 0, 13, 153, 0, 14, 42, 180, 0, 7, 192, 0, 13, 190, 167, 0, 53, 42]
abbrev dktX4_size_0 : List UInt8 := dkwX4_size_0 ++ dktX4_size_1
theorem dksX4_size_0 : cX4_size.data.toList.drop 0 = dktX4_size_0 := by decide +kernel
theorem dksX4_size_1 : cX4_size.data.toList.drop 22 = dktX4_size_1 := dk_seg dksX4_size_0 22 rfl rfl
theorem dksX4_size_2 : cX4_size.data.toList.drop 46 = dktX4_size_2 := dk_seg dksX4_size_1 24 rfl rfl
theorem dksX4_size_3 : cX4_size.data.toList.drop 70 = dktX4_size_3 := dk_seg dksX4_size_2 24 rfl rfl
theorem dX4_size_0 : decode cX4_size 0 = .ok (.aload_n 0, 1) := dk_42 (dk_at dksX4_size_0 0 rfl rfl)
theorem dX4_size_1 : decode cX4_size 1 = .ok (.getfield 7, 3) := dk_180 0 7 (dk_at dksX4_size_0 1 rfl rfl)
theorem dX4_size_4 : decode cX4_size 4 = .ok (.instanceof 13, 3) := dk_193 0 13 (dk_at dksX4_size_0 4 rfl rfl)
theorem dX4_size_7 : decode cX4_size 7 = .ok (.ifCond .eq 14, 3) := dk_153 0 14 (dk_at dksX4_size_0 7 rfl rfl)
theorem dX4_size_10 : decode cX4_size 10 = .ok (.aload_n 0, 1) := dk_42 (dk_at dksX4_size_0 10 rfl rfl)
theorem dX4_size_11 : decode cX4_size 11 = .ok (.getfield 7, 3) := dk_180 0 7 (dk_at dksX4_size_0 11 rfl rfl)
theorem dX4_size_14 : decode cX4_size 14 = .ok (.checkcast 13, 3) := dk_192 0 13 (dk_at dksX4_size_0 14 rfl rfl)
theorem dX4_size_17 : decode cX4_size 17 = .ok (.arraylength, 1) := dk_190 (dk_at dksX4_size_0 17 rfl rfl)
theorem dX4_size_18 : decode cX4_size 18 = .ok (.goto 53, 3) := dk_167 0 53 (dk_at dksX4_size_0 18 rfl rfl)
theorem dX4_size_21 : decode cX4_size 21 = .ok (.aload_n 0, 1) := dk_42 (dk_at dksX4_size_0 21 rfl rfl)
theorem dX4_size_22 : decode cX4_size 22 = .ok (.getfield 7, 3) := dk_180 0 7 (dk_at dksX4_size_1 0 rfl rfl)
theorem dX4_size_25 : decode cX4_size 25 = .ok (.instanceof 15, 3) := dk_193 0 15 (dk_at dksX4_size_1 3 rfl rfl)
theorem dX4_size_28 : decode cX4_size 28 = .ok (.ifCond .eq 14, 3) := dk_153 0 14 (dk_at dksX4_size_1 6 rfl rfl)
theorem dX4_size_31 : decode cX4_size 31 = .ok (.aload_n 0, 1) := dk_42 (dk_at dksX4_size_1 9 rfl rfl)
theorem dX4_size_32 : decode cX4_size 32 = .ok (.getfield 7, 3) := dk_180 0 7 (dk_at dksX4_size_1 10 rfl rfl)
theorem dX4_size_35 : decode cX4_size 35 = .ok (.checkcast 15, 3) := dk_192 0 15 (dk_at dksX4_size_1 13 rfl rfl)
theorem dX4_size_38 : decode cX4_size 38 = .ok (.arraylength, 1) := dk_190 (dk_at dksX4_size_1 16 rfl rfl)
theorem dX4_size_39 : decode cX4_size 39 = .ok (.goto 32, 3) := dk_167 0 32 (dk_at dksX4_size_1 17 rfl rfl)
theorem dX4_size_42 : decode cX4_size 42 = .ok (.aload_n 0, 1) := dk_42 (dk_at dksX4_size_1 20 rfl rfl)
theorem dX4_size_43 : decode cX4_size 43 = .ok (.getfield 7, 3) := dk_180 0 7 (dk_at dksX4_size_1 21 rfl rfl)
theorem dX4_size_46 : decode cX4_size 46 = .ok (.instanceof 17, 3) := dk_193 0 17 (dk_at dksX4_size_2 0 rfl rfl)
theorem dX4_size_49 : decode cX4_size 49 = .ok (.ifCond .eq 14, 3) := dk_153 0 14 (dk_at dksX4_size_2 3 rfl rfl)
theorem dX4_size_52 : decode cX4_size 52 = .ok (.aload_n 0, 1) := dk_42 (dk_at dksX4_size_2 6 rfl rfl)
theorem dX4_size_53 : decode cX4_size 53 = .ok (.getfield 7, 3) := dk_180 0 7 (dk_at dksX4_size_2 7 rfl rfl)
theorem dX4_size_56 : decode cX4_size 56 = .ok (.checkcast 17, 3) := dk_192 0 17 (dk_at dksX4_size_2 10 rfl rfl)
theorem dX4_size_59 : decode cX4_size 59 = .ok (.arraylength, 1) := dk_190 (dk_at dksX4_size_2 13 rfl rfl)
theorem dX4_size_60 : decode cX4_size 60 = .ok (.goto 11, 3) := dk_167 0 11 (dk_at dksX4_size_2 14 rfl rfl)
theorem dX4_size_63 : decode cX4_size 63 = .ok (.aload_n 0, 1) := dk_42 (dk_at dksX4_size_2 17 rfl rfl)
theorem dX4_size_64 : decode cX4_size 64 = .ok (.getfield 7, 3) := dk_180 0 7 (dk_at dksX4_size_2 18 rfl rfl)
theorem dX4_size_67 : decode cX4_size 67 = .ok (.checkcast 19, 3) := dk_192 0 19 (dk_at dksX4_size_2 21 rfl rfl)
theorem dX4_size_70 : decode cX4_size 70 = .ok (.arraylength, 1) := dk_190 (dk_at dksX4_size_3 0 rfl rfl)
theorem dX4_size_71 : decode cX4_size 71 = .ok (.ireturn, 1) := dk_172 (dk_at dksX4_size_3 1 rfl rfl)
abbrev cX4_at : ByteArray := prog_15_method_4_code
def yX4_at : MethodName := ⟨RX4, "at", "(I)J"⟩
def dkwX4_at_3 : List UInt8 := [180, 0, 7, 192, 0, 19, 27, 47, 173]
abbrev dktX4_at_3 : List UInt8 := dkwX4_at_3 ++ []
def dkwX4_at_2 : List UInt8 := [180, 0, 7, 193, 0, 17, 153, 0, 16, 42, 180, 0, 7, 192, 0, 17, 27, 46, 133, 167, 0, 12, 42]
abbrev dktX4_at_2 : List UInt8 := dkwX4_at_2 ++ dktX4_at_3
def dkwX4_at_1 : List UInt8 := [180, 0, 7, 193, 0, 15, 153, 0, 16, 42, 180, 0, 7, 192, 0, 15, 27, 53, 133, 167, 0, 35, 42]
abbrev dktX4_at_1 : List UInt8 := dkwX4_at_1 ++ dktX4_at_2
def dkwX4_at_0 : List UInt8 := [42, 180, 0, 7, 193, 0, 13, 153, 0, 16, 42, 180, 0, 7, 192, 0, 13, 27, 51, 133, 167, 0, 58, 42]
abbrev dktX4_at_0 : List UInt8 := dkwX4_at_0 ++ dktX4_at_1
theorem dksX4_at_0 : cX4_at.data.toList.drop 0 = dktX4_at_0 := by decide +kernel
theorem dksX4_at_1 : cX4_at.data.toList.drop 24 = dktX4_at_1 := dk_seg dksX4_at_0 24 rfl rfl
theorem dksX4_at_2 : cX4_at.data.toList.drop 47 = dktX4_at_2 := dk_seg dksX4_at_1 23 rfl rfl
theorem dksX4_at_3 : cX4_at.data.toList.drop 70 = dktX4_at_3 := dk_seg dksX4_at_2 23 rfl rfl
theorem dX4_at_0 : decode cX4_at 0 = .ok (.aload_n 0, 1) := dk_42 (dk_at dksX4_at_0 0 rfl rfl)
theorem dX4_at_1 : decode cX4_at 1 = .ok (.getfield 7, 3) := dk_180 0 7 (dk_at dksX4_at_0 1 rfl rfl)
theorem dX4_at_4 : decode cX4_at 4 = .ok (.instanceof 13, 3) := dk_193 0 13 (dk_at dksX4_at_0 4 rfl rfl)
theorem dX4_at_7 : decode cX4_at 7 = .ok (.ifCond .eq 16, 3) := dk_153 0 16 (dk_at dksX4_at_0 7 rfl rfl)
theorem dX4_at_10 : decode cX4_at 10 = .ok (.aload_n 0, 1) := dk_42 (dk_at dksX4_at_0 10 rfl rfl)
theorem dX4_at_11 : decode cX4_at 11 = .ok (.getfield 7, 3) := dk_180 0 7 (dk_at dksX4_at_0 11 rfl rfl)
theorem dX4_at_14 : decode cX4_at 14 = .ok (.checkcast 13, 3) := dk_192 0 13 (dk_at dksX4_at_0 14 rfl rfl)
theorem dX4_at_17 : decode cX4_at 17 = .ok (.iload_n 1, 1) := dk_27 (dk_at dksX4_at_0 17 rfl rfl)
theorem dX4_at_18 : decode cX4_at 18 = .ok (.baload, 1) := dk_51 (dk_at dksX4_at_0 18 rfl rfl)
theorem dX4_at_19 : decode cX4_at 19 = .ok (.i2l, 1) := dk_133 (dk_at dksX4_at_0 19 rfl rfl)
theorem dX4_at_20 : decode cX4_at 20 = .ok (.goto 58, 3) := dk_167 0 58 (dk_at dksX4_at_0 20 rfl rfl)
theorem dX4_at_23 : decode cX4_at 23 = .ok (.aload_n 0, 1) := dk_42 (dk_at dksX4_at_0 23 rfl rfl)
theorem dX4_at_24 : decode cX4_at 24 = .ok (.getfield 7, 3) := dk_180 0 7 (dk_at dksX4_at_1 0 rfl rfl)
theorem dX4_at_27 : decode cX4_at 27 = .ok (.instanceof 15, 3) := dk_193 0 15 (dk_at dksX4_at_1 3 rfl rfl)
theorem dX4_at_30 : decode cX4_at 30 = .ok (.ifCond .eq 16, 3) := dk_153 0 16 (dk_at dksX4_at_1 6 rfl rfl)
theorem dX4_at_33 : decode cX4_at 33 = .ok (.aload_n 0, 1) := dk_42 (dk_at dksX4_at_1 9 rfl rfl)
theorem dX4_at_34 : decode cX4_at 34 = .ok (.getfield 7, 3) := dk_180 0 7 (dk_at dksX4_at_1 10 rfl rfl)
theorem dX4_at_37 : decode cX4_at 37 = .ok (.checkcast 15, 3) := dk_192 0 15 (dk_at dksX4_at_1 13 rfl rfl)
theorem dX4_at_40 : decode cX4_at 40 = .ok (.iload_n 1, 1) := dk_27 (dk_at dksX4_at_1 16 rfl rfl)
theorem dX4_at_41 : decode cX4_at 41 = .ok (.saload, 1) := dk_53 (dk_at dksX4_at_1 17 rfl rfl)
theorem dX4_at_42 : decode cX4_at 42 = .ok (.i2l, 1) := dk_133 (dk_at dksX4_at_1 18 rfl rfl)
theorem dX4_at_43 : decode cX4_at 43 = .ok (.goto 35, 3) := dk_167 0 35 (dk_at dksX4_at_1 19 rfl rfl)
theorem dX4_at_46 : decode cX4_at 46 = .ok (.aload_n 0, 1) := dk_42 (dk_at dksX4_at_1 22 rfl rfl)
theorem dX4_at_47 : decode cX4_at 47 = .ok (.getfield 7, 3) := dk_180 0 7 (dk_at dksX4_at_2 0 rfl rfl)
theorem dX4_at_50 : decode cX4_at 50 = .ok (.instanceof 17, 3) := dk_193 0 17 (dk_at dksX4_at_2 3 rfl rfl)
theorem dX4_at_53 : decode cX4_at 53 = .ok (.ifCond .eq 16, 3) := dk_153 0 16 (dk_at dksX4_at_2 6 rfl rfl)
theorem dX4_at_56 : decode cX4_at 56 = .ok (.aload_n 0, 1) := dk_42 (dk_at dksX4_at_2 9 rfl rfl)
theorem dX4_at_57 : decode cX4_at 57 = .ok (.getfield 7, 3) := dk_180 0 7 (dk_at dksX4_at_2 10 rfl rfl)
theorem dX4_at_60 : decode cX4_at 60 = .ok (.checkcast 17, 3) := dk_192 0 17 (dk_at dksX4_at_2 13 rfl rfl)
theorem dX4_at_63 : decode cX4_at 63 = .ok (.iload_n 1, 1) := dk_27 (dk_at dksX4_at_2 16 rfl rfl)
theorem dX4_at_64 : decode cX4_at 64 = .ok (.iaload, 1) := dk_46 (dk_at dksX4_at_2 17 rfl rfl)
theorem dX4_at_65 : decode cX4_at 65 = .ok (.i2l, 1) := dk_133 (dk_at dksX4_at_2 18 rfl rfl)
theorem dX4_at_66 : decode cX4_at 66 = .ok (.goto 12, 3) := dk_167 0 12 (dk_at dksX4_at_2 19 rfl rfl)
theorem dX4_at_69 : decode cX4_at 69 = .ok (.aload_n 0, 1) := dk_42 (dk_at dksX4_at_2 22 rfl rfl)
theorem dX4_at_70 : decode cX4_at 70 = .ok (.getfield 7, 3) := dk_180 0 7 (dk_at dksX4_at_3 0 rfl rfl)
theorem dX4_at_73 : decode cX4_at 73 = .ok (.checkcast 19, 3) := dk_192 0 19 (dk_at dksX4_at_3 3 rfl rfl)
theorem dX4_at_76 : decode cX4_at 76 = .ok (.iload_n 1, 1) := dk_27 (dk_at dksX4_at_3 6 rfl rfl)
theorem dX4_at_77 : decode cX4_at 77 = .ok (.laload, 1) := dk_47 (dk_at dksX4_at_3 7 rfl rfl)
theorem dX4_at_78 : decode cX4_at 78 = .ok (.lreturn, 1) := dk_173 (dk_at dksX4_at_3 8 rfl rfl)
abbrev cX4_make : ByteArray := prog_15_method_2_code
def yX4_make : MethodName := ⟨RX4, "make", "(II)V"⟩
def dkwX4_make_1 : List UInt8 := [160, 0, 9, 28, 188, 10, 167, 0, 6, 28, 188, 11, 181, 0, 7, 177]
abbrev dktX4_make_1 : List UInt8 := dkwX4_make_1 ++ []
def dkwX4_make_0 : List UInt8 := [42, 27, 154, 0, 9, 28, 188, 8, 167, 0, 28, 27, 4, 160, 0, 9, 28, 188, 9, 167, 0, 17, 27, 5]
abbrev dktX4_make_0 : List UInt8 := dkwX4_make_0 ++ dktX4_make_1
theorem dksX4_make_0 : cX4_make.data.toList.drop 0 = dktX4_make_0 := by decide +kernel
theorem dksX4_make_1 : cX4_make.data.toList.drop 24 = dktX4_make_1 := dk_seg dksX4_make_0 24 rfl rfl
theorem dX4_make_0 : decode cX4_make 0 = .ok (.aload_n 0, 1) := dk_42 (dk_at dksX4_make_0 0 rfl rfl)
theorem dX4_make_1 : decode cX4_make 1 = .ok (.iload_n 1, 1) := dk_27 (dk_at dksX4_make_0 1 rfl rfl)
theorem dX4_make_2 : decode cX4_make 2 = .ok (.ifCond .ne 9, 3) := dk_154 0 9 (dk_at dksX4_make_0 2 rfl rfl)
theorem dX4_make_5 : decode cX4_make 5 = .ok (.iload_n 2, 1) := dk_28 (dk_at dksX4_make_0 5 rfl rfl)
theorem dX4_make_6 : decode cX4_make 6 = .ok (.newarray .byte, 2) := dk_188_8 (dk_at dksX4_make_0 6 rfl rfl)
theorem dX4_make_8 : decode cX4_make 8 = .ok (.goto 28, 3) := dk_167 0 28 (dk_at dksX4_make_0 8 rfl rfl)
theorem dX4_make_11 : decode cX4_make 11 = .ok (.iload_n 1, 1) := dk_27 (dk_at dksX4_make_0 11 rfl rfl)
theorem dX4_make_12 : decode cX4_make 12 = .ok (.iconst 1, 1) := dk_4 (dk_at dksX4_make_0 12 rfl rfl)
theorem dX4_make_13 : decode cX4_make 13 = .ok (.if_icmp .ne 9, 3) := dk_160 0 9 (dk_at dksX4_make_0 13 rfl rfl)
theorem dX4_make_16 : decode cX4_make 16 = .ok (.iload_n 2, 1) := dk_28 (dk_at dksX4_make_0 16 rfl rfl)
theorem dX4_make_17 : decode cX4_make 17 = .ok (.newarray .short, 2) := dk_188_9 (dk_at dksX4_make_0 17 rfl rfl)
theorem dX4_make_19 : decode cX4_make 19 = .ok (.goto 17, 3) := dk_167 0 17 (dk_at dksX4_make_0 19 rfl rfl)
theorem dX4_make_22 : decode cX4_make 22 = .ok (.iload_n 1, 1) := dk_27 (dk_at dksX4_make_0 22 rfl rfl)
theorem dX4_make_23 : decode cX4_make 23 = .ok (.iconst 2, 1) := dk_5 (dk_at dksX4_make_0 23 rfl rfl)
theorem dX4_make_24 : decode cX4_make 24 = .ok (.if_icmp .ne 9, 3) := dk_160 0 9 (dk_at dksX4_make_1 0 rfl rfl)
theorem dX4_make_27 : decode cX4_make 27 = .ok (.iload_n 2, 1) := dk_28 (dk_at dksX4_make_1 3 rfl rfl)
theorem dX4_make_28 : decode cX4_make 28 = .ok (.newarray .int, 2) := dk_188_10 (dk_at dksX4_make_1 4 rfl rfl)
theorem dX4_make_30 : decode cX4_make 30 = .ok (.goto 6, 3) := dk_167 0 6 (dk_at dksX4_make_1 6 rfl rfl)
theorem dX4_make_33 : decode cX4_make 33 = .ok (.iload_n 2, 1) := dk_28 (dk_at dksX4_make_1 9 rfl rfl)
theorem dX4_make_34 : decode cX4_make 34 = .ok (.newarray .long, 2) := dk_188_11 (dk_at dksX4_make_1 10 rfl rfl)
theorem dX4_make_36 : decode cX4_make 36 = .ok (.putfield 7, 3) := dk_181 0 7 (dk_at dksX4_make_1 12 rfl rfl)
theorem dX4_make_39 : decode cX4_make 39 = .ok (.return_, 1) := dk_177 (dk_at dksX4_make_1 15 rfl rfl)
abbrev cX4_put : ByteArray := prog_15_method_5_code
def yX4_put : MethodName := ⟨RX4, "put", "(IJ)V"⟩
def dkwX4_put_3 : List UInt8 := [79, 167, 0, 13, 42, 180, 0, 7, 192, 0, 19, 27, 32, 80, 177]
abbrev dktX4_put_3 : List UInt8 := dkwX4_put_3 ++ []
def dkwX4_put_2 : List UInt8 := [86, 167, 0, 37, 42, 180, 0, 7, 193, 0, 17, 153, 0, 17, 42, 180, 0, 7, 192, 0, 17, 27, 32, 136]
abbrev dktX4_put_2 : List UInt8 := dkwX4_put_2 ++ dktX4_put_3
def dkwX4_put_1 : List UInt8 := [167, 0, 62, 42, 180, 0, 7, 193, 0, 15, 153, 0, 18, 42, 180, 0, 7, 192, 0, 15, 27, 32, 136, 147]
abbrev dktX4_put_1 : List UInt8 := dkwX4_put_1 ++ dktX4_put_2
def dkwX4_put_0 : List UInt8 := [42, 180, 0, 7, 193, 0, 13, 153, 0, 18, 42, 180, 0, 7, 192, 0, 13, 27, 32, 136, 145, 84]
abbrev dktX4_put_0 : List UInt8 := dkwX4_put_0 ++ dktX4_put_1
theorem dksX4_put_0 : cX4_put.data.toList.drop 0 = dktX4_put_0 := by decide +kernel
theorem dksX4_put_1 : cX4_put.data.toList.drop 22 = dktX4_put_1 := dk_seg dksX4_put_0 22 rfl rfl
theorem dksX4_put_2 : cX4_put.data.toList.drop 46 = dktX4_put_2 := dk_seg dksX4_put_1 24 rfl rfl
theorem dksX4_put_3 : cX4_put.data.toList.drop 70 = dktX4_put_3 := dk_seg dksX4_put_2 24 rfl rfl
theorem dX4_put_0 : decode cX4_put 0 = .ok (.aload_n 0, 1) := dk_42 (dk_at dksX4_put_0 0 rfl rfl)
theorem dX4_put_1 : decode cX4_put 1 = .ok (.getfield 7, 3) := dk_180 0 7 (dk_at dksX4_put_0 1 rfl rfl)
theorem dX4_put_4 : decode cX4_put 4 = .ok (.instanceof 13, 3) := dk_193 0 13 (dk_at dksX4_put_0 4 rfl rfl)
theorem dX4_put_7 : decode cX4_put 7 = .ok (.ifCond .eq 18, 3) := dk_153 0 18 (dk_at dksX4_put_0 7 rfl rfl)
theorem dX4_put_10 : decode cX4_put 10 = .ok (.aload_n 0, 1) := dk_42 (dk_at dksX4_put_0 10 rfl rfl)
theorem dX4_put_11 : decode cX4_put 11 = .ok (.getfield 7, 3) := dk_180 0 7 (dk_at dksX4_put_0 11 rfl rfl)
theorem dX4_put_14 : decode cX4_put 14 = .ok (.checkcast 13, 3) := dk_192 0 13 (dk_at dksX4_put_0 14 rfl rfl)
theorem dX4_put_17 : decode cX4_put 17 = .ok (.iload_n 1, 1) := dk_27 (dk_at dksX4_put_0 17 rfl rfl)
theorem dX4_put_18 : decode cX4_put 18 = .ok (.lload_n 2, 1) := dk_32 (dk_at dksX4_put_0 18 rfl rfl)
theorem dX4_put_19 : decode cX4_put 19 = .ok (.l2i, 1) := dk_136 (dk_at dksX4_put_0 19 rfl rfl)
theorem dX4_put_20 : decode cX4_put 20 = .ok (.i2b, 1) := dk_145 (dk_at dksX4_put_0 20 rfl rfl)
theorem dX4_put_21 : decode cX4_put 21 = .ok (.bastore, 1) := dk_84 (dk_at dksX4_put_0 21 rfl rfl)
theorem dX4_put_22 : decode cX4_put 22 = .ok (.goto 62, 3) := dk_167 0 62 (dk_at dksX4_put_1 0 rfl rfl)
theorem dX4_put_25 : decode cX4_put 25 = .ok (.aload_n 0, 1) := dk_42 (dk_at dksX4_put_1 3 rfl rfl)
theorem dX4_put_26 : decode cX4_put 26 = .ok (.getfield 7, 3) := dk_180 0 7 (dk_at dksX4_put_1 4 rfl rfl)
theorem dX4_put_29 : decode cX4_put 29 = .ok (.instanceof 15, 3) := dk_193 0 15 (dk_at dksX4_put_1 7 rfl rfl)
theorem dX4_put_32 : decode cX4_put 32 = .ok (.ifCond .eq 18, 3) := dk_153 0 18 (dk_at dksX4_put_1 10 rfl rfl)
theorem dX4_put_35 : decode cX4_put 35 = .ok (.aload_n 0, 1) := dk_42 (dk_at dksX4_put_1 13 rfl rfl)
theorem dX4_put_36 : decode cX4_put 36 = .ok (.getfield 7, 3) := dk_180 0 7 (dk_at dksX4_put_1 14 rfl rfl)
theorem dX4_put_39 : decode cX4_put 39 = .ok (.checkcast 15, 3) := dk_192 0 15 (dk_at dksX4_put_1 17 rfl rfl)
theorem dX4_put_42 : decode cX4_put 42 = .ok (.iload_n 1, 1) := dk_27 (dk_at dksX4_put_1 20 rfl rfl)
theorem dX4_put_43 : decode cX4_put 43 = .ok (.lload_n 2, 1) := dk_32 (dk_at dksX4_put_1 21 rfl rfl)
theorem dX4_put_44 : decode cX4_put 44 = .ok (.l2i, 1) := dk_136 (dk_at dksX4_put_1 22 rfl rfl)
theorem dX4_put_45 : decode cX4_put 45 = .ok (.i2s, 1) := dk_147 (dk_at dksX4_put_1 23 rfl rfl)
theorem dX4_put_46 : decode cX4_put 46 = .ok (.sastore, 1) := dk_86 (dk_at dksX4_put_2 0 rfl rfl)
theorem dX4_put_47 : decode cX4_put 47 = .ok (.goto 37, 3) := dk_167 0 37 (dk_at dksX4_put_2 1 rfl rfl)
theorem dX4_put_50 : decode cX4_put 50 = .ok (.aload_n 0, 1) := dk_42 (dk_at dksX4_put_2 4 rfl rfl)
theorem dX4_put_51 : decode cX4_put 51 = .ok (.getfield 7, 3) := dk_180 0 7 (dk_at dksX4_put_2 5 rfl rfl)
theorem dX4_put_54 : decode cX4_put 54 = .ok (.instanceof 17, 3) := dk_193 0 17 (dk_at dksX4_put_2 8 rfl rfl)
theorem dX4_put_57 : decode cX4_put 57 = .ok (.ifCond .eq 17, 3) := dk_153 0 17 (dk_at dksX4_put_2 11 rfl rfl)
theorem dX4_put_60 : decode cX4_put 60 = .ok (.aload_n 0, 1) := dk_42 (dk_at dksX4_put_2 14 rfl rfl)
theorem dX4_put_61 : decode cX4_put 61 = .ok (.getfield 7, 3) := dk_180 0 7 (dk_at dksX4_put_2 15 rfl rfl)
theorem dX4_put_64 : decode cX4_put 64 = .ok (.checkcast 17, 3) := dk_192 0 17 (dk_at dksX4_put_2 18 rfl rfl)
theorem dX4_put_67 : decode cX4_put 67 = .ok (.iload_n 1, 1) := dk_27 (dk_at dksX4_put_2 21 rfl rfl)
theorem dX4_put_68 : decode cX4_put 68 = .ok (.lload_n 2, 1) := dk_32 (dk_at dksX4_put_2 22 rfl rfl)
theorem dX4_put_69 : decode cX4_put 69 = .ok (.l2i, 1) := dk_136 (dk_at dksX4_put_2 23 rfl rfl)
theorem dX4_put_70 : decode cX4_put 70 = .ok (.iastore, 1) := dk_79 (dk_at dksX4_put_3 0 rfl rfl)
theorem dX4_put_71 : decode cX4_put 71 = .ok (.goto 13, 3) := dk_167 0 13 (dk_at dksX4_put_3 1 rfl rfl)
theorem dX4_put_74 : decode cX4_put 74 = .ok (.aload_n 0, 1) := dk_42 (dk_at dksX4_put_3 4 rfl rfl)
theorem dX4_put_75 : decode cX4_put 75 = .ok (.getfield 7, 3) := dk_180 0 7 (dk_at dksX4_put_3 5 rfl rfl)
theorem dX4_put_78 : decode cX4_put 78 = .ok (.checkcast 19, 3) := dk_192 0 19 (dk_at dksX4_put_3 8 rfl rfl)
theorem dX4_put_81 : decode cX4_put 81 = .ok (.iload_n 1, 1) := dk_27 (dk_at dksX4_put_3 11 rfl rfl)
theorem dX4_put_82 : decode cX4_put 82 = .ok (.lload_n 2, 1) := dk_32 (dk_at dksX4_put_3 12 rfl rfl)
theorem dX4_put_83 : decode cX4_put 83 = .ok (.lastore, 1) := dk_80 (dk_at dksX4_put_3 13 rfl rfl)
theorem dX4_put_84 : decode cX4_put 84 = .ok (.return_, 1) := dk_177 (dk_at dksX4_put_3 14 rfl rfl)
theorem q147 : (Jvm.Cond.initialized "LockRail$Slot") ∈ lw_all := lw_g (lw_at lw_m1 8 rfl) rfl
theorem q377 : (Jvm.Cond.instantiable "LockRail$Slot" (1 : Nat)) ∈ lw_all := lw_g (lw_at lw_m1 238 rfl) rfl
theorem q379 : (Jvm.Cond.instanceMethod ({ cls := "LockRail$Slot", name := "<init>", desc := "()V" } : Jvm.MethodName)) ∈ lw_all := lw_g (lw_at lw_m2 0 rfl) rfl
theorem q380 : (Jvm.Cond.code ({ cls := "LockRail$Slot", name := "<init>", desc := "()V" } : Jvm.MethodName) prog_15_method_1_code (1 : Nat) (Option.none : Option Jvm.ClassFile.FieldType)) ∈ lw_all := lw_g (lw_at lw_m2 1 rfl) rfl
theorem q381 : (Jvm.Cond.methodLink "LockRail$Slot" (1 : Nat) ({ cls := "java/lang/Object", name := "<init>", desc := "()V" } : Jvm.MethodName)) ∈ lw_all := lw_g (lw_at lw_m2 2 rfl) rfl
theorem q382 : (Jvm.Cond.fieldLink "LockRail$Slot" (7 : Nat) "LockRail$Slot" "row" "Ljava/lang/Object;") ∈ lw_all := lw_g (lw_at lw_m2 3 rfl) rfl
theorem q384 : (Jvm.Cond.lays "LockRail$Slot" "LockRail$Slot" "row" "Ljava/lang/Object;") ∈ lw_all := lw_g (lw_at lw_m2 5 rfl) rfl
theorem q385 : (Jvm.Cond.soleField "LockRail$Slot" "row") ∈ lw_all := lw_g (lw_at lw_m2 6 rfl) rfl
theorem q386 : (Jvm.Cond.superclass "LockRail$Slot" "java/lang/Object") ∈ lw_all := lw_g (lw_at lw_m2 7 rfl) rfl
theorem q779 : (Jvm.Cond.selects "LockRail$Slot" ({ cls := "java/lang/Object", name := "getClass", desc := "()Ljava/lang/Class;" } : Jvm.MethodName) ({ cls := "java/lang/Object", name := "getClass", desc := "()Ljava/lang/Class;" } : Jvm.MethodName)) ∈ lw_all := lw_g (lw_at lw_m3 160 rfl) rfl
theorem q1579 : (Jvm.Cond.instanceMethod ({ cls := "LockRail$Slot", name := "size", desc := "()I" } : Jvm.MethodName)) ∈ lw_all := lw_g (lw_at lw_m7 0 rfl) rfl
theorem q1580 : (Jvm.Cond.selects "LockRail$Slot" ({ cls := "LockRail$Slot", name := "size", desc := "()I" } : Jvm.MethodName) ({ cls := "LockRail$Slot", name := "size", desc := "()I" } : Jvm.MethodName)) ∈ lw_all := lw_g (lw_at lw_m7 1 rfl) rfl
theorem q1581 : (Jvm.Cond.code ({ cls := "LockRail$Slot", name := "size", desc := "()I" } : Jvm.MethodName) prog_15_method_3_code (1 : Nat) (Option.some Jvm.ClassFile.FieldType.int)) ∈ lw_all := lw_g (lw_at lw_m7 2 rfl) rfl
theorem q1582 : (Jvm.Cond.classLink "LockRail$Slot" (13 : Nat) "[B") ∈ lw_all := lw_g (lw_at lw_m7 3 rfl) rfl
theorem q1583 : (Jvm.Cond.classLink "LockRail$Slot" (15 : Nat) "[S") ∈ lw_all := lw_g (lw_at lw_m7 4 rfl) rfl
theorem q1584 : (Jvm.Cond.classLink "LockRail$Slot" (17 : Nat) "[I") ∈ lw_all := lw_g (lw_at lw_m7 5 rfl) rfl
theorem q1585 : (Jvm.Cond.classLink "LockRail$Slot" (19 : Nat) "[J") ∈ lw_all := lw_g (lw_at lw_m7 6 rfl) rfl
theorem q1587 : (Jvm.Cond.instanceMethod ({ cls := "LockRail$Slot", name := "at", desc := "(I)J" } : Jvm.MethodName)) ∈ lw_all := lw_g (lw_at lw_m7 8 rfl) rfl
theorem q1588 : (Jvm.Cond.selects "LockRail$Slot" ({ cls := "LockRail$Slot", name := "at", desc := "(I)J" } : Jvm.MethodName) ({ cls := "LockRail$Slot", name := "at", desc := "(I)J" } : Jvm.MethodName)) ∈ lw_all := lw_g (lw_at lw_m7 9 rfl) rfl
theorem q1589 : (Jvm.Cond.code ({ cls := "LockRail$Slot", name := "at", desc := "(I)J" } : Jvm.MethodName) prog_15_method_4_code (2 : Nat) (Option.some Jvm.ClassFile.FieldType.long)) ∈ lw_all := lw_g (lw_at lw_m7 10 rfl) rfl
theorem q1691 : (Jvm.Cond.instanceMethod ({ cls := "LockRail$Slot", name := "make", desc := "(II)V" } : Jvm.MethodName)) ∈ lw_all := lw_g (lw_at lw_m7 112 rfl) rfl
theorem q1692 : (Jvm.Cond.selects "LockRail$Slot" ({ cls := "LockRail$Slot", name := "make", desc := "(II)V" } : Jvm.MethodName) ({ cls := "LockRail$Slot", name := "make", desc := "(II)V" } : Jvm.MethodName)) ∈ lw_all := lw_g (lw_at lw_m7 113 rfl) rfl
theorem q1693 : (Jvm.Cond.code ({ cls := "LockRail$Slot", name := "make", desc := "(II)V" } : Jvm.MethodName) prog_15_method_2_code (3 : Nat) (Option.none : Option Jvm.ClassFile.FieldType)) ∈ lw_all := lw_g (lw_at lw_m7 114 rfl) rfl
theorem q1719 : (Jvm.Cond.instanceMethod ({ cls := "LockRail$Slot", name := "put", desc := "(IJ)V" } : Jvm.MethodName)) ∈ lw_all := lw_g (lw_at lw_m7 140 rfl) rfl
theorem q1720 : (Jvm.Cond.selects "LockRail$Slot" ({ cls := "LockRail$Slot", name := "put", desc := "(IJ)V" } : Jvm.MethodName) ({ cls := "LockRail$Slot", name := "put", desc := "(IJ)V" } : Jvm.MethodName)) ∈ lw_all := lw_g (lw_at lw_m7 141 rfl) rfl
theorem q1721 : (Jvm.Cond.code ({ cls := "LockRail$Slot", name := "put", desc := "(IJ)V" } : Jvm.MethodName) prog_15_method_5_code (4 : Nat) (Option.none : Option Jvm.ClassFile.FieldType)) ∈ lw_all := lw_g (lw_at lw_m7 142 rfl) rfl
theorem q2537 : (Jvm.Cond.castable "LockRail$Slot" "java/lang/Object") ∈ lw_tbl := lw_at lw_m10 238 rfl
theorem in_X4 : ∀ w ∈ wsX40, w ∈ lw_all := lw_in wsX40 [384] (by decide +kernel) (by decide +kernel)

/-! LockRail$Image -/
set_option maxRecDepth 100000
def RX5 : String := "LockRail$Image"
def TX5 : u_T := fun k => match k with
  | 0 => ("LockRail$Image", "rail", "LLockRail$Rail;", false)
  | 1 => ("LockRail$Image", "year", "LLockRail$Year;", true)
  | _ => ("LockRail$Image", "this$0", "LLockRail;", true)
def tyX5 : Nat → FieldType := fun k => match k with
  | 0 => .object "LockRail$Rail"
  | 1 => .object "LockRail$Year"
  | _ => .object "LockRail"
abbrev wsX50 : List Cond := u_ws RX5 TX5 3
theorem nmX5 : ∀ a, a < 3 → ∀ b, b < 3 → a ≠ b → (TX5 a).2.1 ≠ (TX5 b).2.1 := by decide +kernel
theorem tyX5_ok : ∀ k, k < 3 → parseFieldDescriptor (TX5 k).2.2.1 = some (tyX5 k) := by decide +kernel
abbrev cX5_init : ByteArray := prog_8_method_1_code
def yX5_init : MethodName := ⟨RX5, "<init>", "(LLockRail;)V"⟩
def dkwX5_init_1 : List UInt8 := [177]
abbrev dktX5_init_1 : List UInt8 := dkwX5_init_1 ++ []
def dkwX5_init_0 : List UInt8 := [42, 43, 181, 0, 1, 42, 183, 0, 7, 42, 187, 0, 13, 89, 42, 180, 0, 1, 183, 0, 15, 181, 0, 18]
abbrev dktX5_init_0 : List UInt8 := dkwX5_init_0 ++ dktX5_init_1
theorem dksX5_init_0 : cX5_init.data.toList.drop 0 = dktX5_init_0 := by decide +kernel
theorem dksX5_init_1 : cX5_init.data.toList.drop 24 = dktX5_init_1 := dk_seg dksX5_init_0 24 rfl rfl
theorem dX5_init_0 : decode cX5_init 0 = .ok (.aload_n 0, 1) := dk_42 (dk_at dksX5_init_0 0 rfl rfl)
theorem dX5_init_1 : decode cX5_init 1 = .ok (.aload_n 1, 1) := dk_43 (dk_at dksX5_init_0 1 rfl rfl)
theorem dX5_init_2 : decode cX5_init 2 = .ok (.putfield 1, 3) := dk_181 0 1 (dk_at dksX5_init_0 2 rfl rfl)
theorem dX5_init_5 : decode cX5_init 5 = .ok (.aload_n 0, 1) := dk_42 (dk_at dksX5_init_0 5 rfl rfl)
theorem dX5_init_6 : decode cX5_init 6 = .ok (.invokespecial 7, 3) := dk_183 0 7 (dk_at dksX5_init_0 6 rfl rfl)
theorem dX5_init_9 : decode cX5_init 9 = .ok (.aload_n 0, 1) := dk_42 (dk_at dksX5_init_0 9 rfl rfl)
theorem dX5_init_10 : decode cX5_init 10 = .ok (.new 13, 3) := dk_187 0 13 (dk_at dksX5_init_0 10 rfl rfl)
theorem dX5_init_13 : decode cX5_init 13 = .ok (.dup, 1) := dk_89 (dk_at dksX5_init_0 13 rfl rfl)
theorem dX5_init_14 : decode cX5_init 14 = .ok (.aload_n 0, 1) := dk_42 (dk_at dksX5_init_0 14 rfl rfl)
theorem dX5_init_15 : decode cX5_init 15 = .ok (.getfield 1, 3) := dk_180 0 1 (dk_at dksX5_init_0 15 rfl rfl)
theorem dX5_init_18 : decode cX5_init 18 = .ok (.invokespecial 15, 3) := dk_183 0 15 (dk_at dksX5_init_0 18 rfl rfl)
theorem dX5_init_21 : decode cX5_init 21 = .ok (.putfield 18, 3) := dk_181 0 18 (dk_at dksX5_init_0 21 rfl rfl)
theorem dX5_init_24 : decode cX5_init 24 = .ok (.return_, 1) := dk_177 (dk_at dksX5_init_1 0 rfl rfl)
theorem q148 : (Jvm.Cond.initialized "LockRail$Image") ∈ lw_all := lw_g (lw_at lw_m1 9 rfl) rfl
theorem q389 : (Jvm.Cond.instantiable "LockRail$Image" (3 : Nat)) ∈ lw_all := lw_g (lw_at lw_m2 10 rfl) rfl
theorem q391 : (Jvm.Cond.instanceMethod ({ cls := "LockRail$Image", name := "<init>", desc := "(LLockRail;)V" } : Jvm.MethodName)) ∈ lw_all := lw_g (lw_at lw_m2 12 rfl) rfl
theorem q392 : (Jvm.Cond.code ({ cls := "LockRail$Image", name := "<init>", desc := "(LLockRail;)V" } : Jvm.MethodName) prog_8_method_1_code (2 : Nat) (Option.none : Option Jvm.ClassFile.FieldType)) ∈ lw_all := lw_g (lw_at lw_m2 13 rfl) rfl
theorem q393 : (Jvm.Cond.methodLink "LockRail$Image" (7 : Nat) ({ cls := "java/lang/Object", name := "<init>", desc := "()V" } : Jvm.MethodName)) ∈ lw_all := lw_g (lw_at lw_m2 14 rfl) rfl
theorem q394 : (Jvm.Cond.classLink "LockRail$Image" (13 : Nat) "LockRail$Year") ∈ lw_all := lw_g (lw_at lw_m2 15 rfl) rfl
theorem q395 : (Jvm.Cond.methodLinkNest "LockRail$Image" (15 : Nat) ({ cls := "LockRail$Year", name := "<init>", desc := "(LLockRail;)V" } : Jvm.MethodName) "LockRail") ∈ lw_tbl := lw_at lw_m2 16 rfl
theorem q397 : (Jvm.Cond.fieldLink "LockRail$Image" (18 : Nat) "LockRail$Image" "year" "LLockRail$Year;") ∈ lw_all := lw_g (lw_at lw_m2 18 rfl) rfl
theorem q399 : (Jvm.Cond.fieldLink "LockRail$Image" (1 : Nat) "LockRail$Image" "this$0" "LLockRail;") ∈ lw_all := lw_g (lw_at lw_m2 20 rfl) rfl
theorem q400 : (Jvm.Cond.lays "LockRail$Image" "LockRail$Image" "rail" "LLockRail$Rail;") ∈ lw_all := lw_g (lw_at lw_m2 21 rfl) rfl
theorem q401 : (Jvm.Cond.soleField "LockRail$Image" "rail") ∈ lw_all := lw_g (lw_at lw_m2 22 rfl) rfl
theorem q402 : (Jvm.Cond.laysFinal "LockRail$Image" "LockRail$Image" "year" "LLockRail$Year;") ∈ lw_all := lw_g (lw_at lw_m2 23 rfl) rfl
theorem q403 : (Jvm.Cond.soleField "LockRail$Image" "year") ∈ lw_all := lw_g (lw_at lw_m2 24 rfl) rfl
theorem q404 : (Jvm.Cond.laysFinal "LockRail$Image" "LockRail$Image" "this$0" "LLockRail;") ∈ lw_all := lw_g (lw_at lw_m2 25 rfl) rfl
theorem q405 : (Jvm.Cond.soleField "LockRail$Image" "this$0") ∈ lw_all := lw_g (lw_at lw_m2 26 rfl) rfl
theorem q406 : (Jvm.Cond.superclass "LockRail$Image" "java/lang/Object") ∈ lw_all := lw_g (lw_at lw_m2 27 rfl) rfl
theorem q772 : (Jvm.Cond.selects "LockRail$Image" ({ cls := "java/lang/Object", name := "getClass", desc := "()Ljava/lang/Class;" } : Jvm.MethodName) ({ cls := "java/lang/Object", name := "getClass", desc := "()Ljava/lang/Class;" } : Jvm.MethodName)) ∈ lw_all := lw_g (lw_at lw_m3 153 rfl) rfl
theorem q2538 : (Jvm.Cond.castable "LockRail$Image" "java/lang/Object") ∈ lw_tbl := lw_at lw_m10 239 rfl
theorem in_X5 : ∀ w ∈ wsX50, w ∈ lw_all := lw_in wsX50 [400, 402, 404] (by decide +kernel) (by decide +kernel)

/-! LockRail$Reader -/
set_option maxRecDepth 100000
def RX7 : String := "LockRail$Reader"
def TX7 : u_T := fun k => match k with
  | 0 => ("LockRail$Reader", "size", "I", true)
  | 1 => ("LockRail$Reader", "rail", "LLockRail$Rail;", true)
  | 2 => ("LockRail$Reader", "at", "I", false)
  | 3 => ("LockRail$Reader", "from", "I", false)
  | 4 => ("LockRail$Reader", "value", "I", false)
  | 5 => ("LockRail$Reader", "token", "LLockRail$Token;", false)
  | _ => ("LockRail$Reader", "this$0", "LLockRail;", true)
def tyX7 : Nat → FieldType := fun k => match k with
  | 0 => .int
  | 1 => .object "LockRail$Rail"
  | 2 => .int
  | 3 => .int
  | 4 => .int
  | 5 => .object "LockRail$Token"
  | _ => .object "LockRail"
abbrev wsX70 : List Cond := u_ws RX7 TX7 7
theorem nmX7 : ∀ a, a < 7 → ∀ b, b < 7 → a ≠ b → (TX7 a).2.1 ≠ (TX7 b).2.1 := by decide +kernel
theorem tyX7_ok : ∀ k, k < 7 → parseFieldDescriptor (TX7 k).2.2.1 = some (tyX7 k) := by decide +kernel
abbrev cX7_init : ByteArray := prog_14_method_1_code
def yX7_init : MethodName := ⟨RX7, "<init>", "(LLockRail;)V"⟩
def dkwX7_init_1 : List UInt8 := [89, 183, 0, 24, 181, 0, 25, 42, 178, 0, 29, 181, 0, 35, 42, 182, 0, 38, 177]
abbrev dktX7_init_1 : List UInt8 := dkwX7_init_1 ++ []
def dkwX7_init_0 : List UInt8 := [42, 43, 181, 0, 3, 42, 183, 0, 9, 42, 42, 180, 0, 3, 180, 0, 15, 181, 0, 19, 42, 187, 0, 22]
abbrev dktX7_init_0 : List UInt8 := dkwX7_init_0 ++ dktX7_init_1
theorem dksX7_init_0 : cX7_init.data.toList.drop 0 = dktX7_init_0 := by decide +kernel
theorem dksX7_init_1 : cX7_init.data.toList.drop 24 = dktX7_init_1 := dk_seg dksX7_init_0 24 rfl rfl
theorem dX7_init_0 : decode cX7_init 0 = .ok (.aload_n 0, 1) := dk_42 (dk_at dksX7_init_0 0 rfl rfl)
theorem dX7_init_1 : decode cX7_init 1 = .ok (.aload_n 1, 1) := dk_43 (dk_at dksX7_init_0 1 rfl rfl)
theorem dX7_init_2 : decode cX7_init 2 = .ok (.putfield 3, 3) := dk_181 0 3 (dk_at dksX7_init_0 2 rfl rfl)
theorem dX7_init_5 : decode cX7_init 5 = .ok (.aload_n 0, 1) := dk_42 (dk_at dksX7_init_0 5 rfl rfl)
theorem dX7_init_6 : decode cX7_init 6 = .ok (.invokespecial 9, 3) := dk_183 0 9 (dk_at dksX7_init_0 6 rfl rfl)
theorem dX7_init_9 : decode cX7_init 9 = .ok (.aload_n 0, 1) := dk_42 (dk_at dksX7_init_0 9 rfl rfl)
theorem dX7_init_10 : decode cX7_init 10 = .ok (.aload_n 0, 1) := dk_42 (dk_at dksX7_init_0 10 rfl rfl)
theorem dX7_init_11 : decode cX7_init 11 = .ok (.getfield 3, 3) := dk_180 0 3 (dk_at dksX7_init_0 11 rfl rfl)
theorem dX7_init_14 : decode cX7_init 14 = .ok (.getfield 15, 3) := dk_180 0 15 (dk_at dksX7_init_0 14 rfl rfl)
theorem dX7_init_17 : decode cX7_init 17 = .ok (.putfield 19, 3) := dk_181 0 19 (dk_at dksX7_init_0 17 rfl rfl)
theorem dX7_init_20 : decode cX7_init 20 = .ok (.aload_n 0, 1) := dk_42 (dk_at dksX7_init_0 20 rfl rfl)
theorem dX7_init_21 : decode cX7_init 21 = .ok (.new 22, 3) := dk_187 0 22 (dk_at dksX7_init_0 21 rfl rfl)
theorem dX7_init_24 : decode cX7_init 24 = .ok (.dup, 1) := dk_89 (dk_at dksX7_init_1 0 rfl rfl)
theorem dX7_init_25 : decode cX7_init 25 = .ok (.invokespecial 24, 3) := dk_183 0 24 (dk_at dksX7_init_1 1 rfl rfl)
theorem dX7_init_28 : decode cX7_init 28 = .ok (.putfield 25, 3) := dk_181 0 25 (dk_at dksX7_init_1 4 rfl rfl)
theorem dX7_init_31 : decode cX7_init 31 = .ok (.aload_n 0, 1) := dk_42 (dk_at dksX7_init_1 7 rfl rfl)
theorem dX7_init_32 : decode cX7_init 32 = .ok (.getstatic 29, 3) := dk_178 0 29 (dk_at dksX7_init_1 8 rfl rfl)
theorem dX7_init_35 : decode cX7_init 35 = .ok (.putfield 35, 3) := dk_181 0 35 (dk_at dksX7_init_1 11 rfl rfl)
theorem dX7_init_38 : decode cX7_init 38 = .ok (.aload_n 0, 1) := dk_42 (dk_at dksX7_init_1 14 rfl rfl)
theorem dX7_init_39 : decode cX7_init 39 = .ok (.invokevirtual 38, 3) := dk_182 0 38 (dk_at dksX7_init_1 15 rfl rfl)
theorem dX7_init_42 : decode cX7_init 42 = .ok (.return_, 1) := dk_177 (dk_at dksX7_init_1 18 rfl rfl)
abbrev cX7_next : ByteArray := prog_14_method_3_code
def yX7_next : MethodName := ⟨RX7, "next", "()V"⟩
def dkwX7_next_10 : List UInt8 := [167, 0, 6, 178, 0, 78, 181, 0, 35, 42, 89, 180, 0, 41, 4, 96, 181, 0, 41, 177]
abbrev dktX7_next_10 : List UInt8 := dkwX7_next_10 ++ []
def dkwX7_next_9 : List UInt8 := [167, 0, 43, 42, 42, 180, 0, 3, 180, 0, 44, 42, 180, 0, 41, 51, 16, 59, 160, 0, 9, 178, 0, 75]
abbrev dktX7_next_9 : List UInt8 := dkwX7_next_9 ++ dktX7_next_10
def dkwX7_next_8 : List UInt8 := [181, 0, 62, 42, 89, 180, 0, 41, 4, 96, 181, 0, 41, 167, 255, 203, 42, 178, 0, 72, 181, 0, 35]
abbrev dktX7_next_8 : List UInt8 := dkwX7_next_8 ++ dktX7_next_9
def dkwX7_next_7 : List UInt8 := [180, 0, 62, 104, 42, 180, 0, 3, 180, 0, 44, 42, 180, 0, 41, 51, 96, 16, 48, 100, 184, 0, 66]
abbrev dktX7_next_7 : List UInt8 := dkwX7_next_7 ++ dktX7_next_8
def dkwX7_next_6 : List UInt8 := [42, 3, 181, 0, 62, 42, 16, 48, 16, 57, 182, 0, 55, 153, 0, 48, 42, 18, 65, 16, 10, 42]
abbrev dktX7_next_6 : List UInt8 := dkwX7_next_6 ++ dktX7_next_7
def dkwX7_next_5 : List UInt8 := [167, 255, 235, 42, 178, 0, 59, 181, 0, 35, 167, 0, 125, 42, 16, 48, 16, 57, 182, 0, 55, 153, 0, 74]
abbrev dktX7_next_5 : List UInt8 := dkwX7_next_5 ++ dktX7_next_6
def dkwX7_next_4 : List UInt8 := [153, 0, 37, 42, 16, 97, 16, 122, 182, 0, 55, 153, 0, 16, 42, 89, 180, 0, 41, 4, 96, 181, 0, 41]
abbrev dktX7_next_4 : List UInt8 := dkwX7_next_4 ++ dktX7_next_5
def dkwX7_next_3 : List UInt8 := [180, 0, 19, 160, 0, 13, 42, 178, 0, 29, 181, 0, 35, 167, 0, 170, 42, 16, 97, 16, 122, 182, 0, 55]
abbrev dktX7_next_3 : List UInt8 := dkwX7_next_3 ++ dktX7_next_4
def dkwX7_next_2 : List UInt8 := [180, 0, 41, 4, 96, 181, 0, 41, 167, 255, 201, 42, 42, 180, 0, 41, 181, 0, 52, 42, 180, 0, 41, 42]
abbrev dktX7_next_2 : List UInt8 := dkwX7_next_2 ++ dktX7_next_3
def dkwX7_next_1 : List UInt8 := [16, 32, 159, 0, 20, 42, 180, 0, 3, 180, 0, 44, 42, 180, 0, 41, 51, 16, 10, 160, 0, 16, 42, 89]
abbrev dktX7_next_1 : List UInt8 := dkwX7_next_1 ++ dktX7_next_2
def dkwX7_next_0 : List UInt8 := [42, 180, 0, 41, 42, 180, 0, 19, 162, 0, 50, 42, 180, 0, 3, 180, 0, 44, 42, 180, 0, 41, 51]
abbrev dktX7_next_0 : List UInt8 := dkwX7_next_0 ++ dktX7_next_1
theorem dksX7_next_0 : cX7_next.data.toList.drop 0 = dktX7_next_0 := by decide +kernel
theorem dksX7_next_1 : cX7_next.data.toList.drop 23 = dktX7_next_1 := dk_seg dksX7_next_0 23 rfl rfl
theorem dksX7_next_2 : cX7_next.data.toList.drop 47 = dktX7_next_2 := dk_seg dksX7_next_1 24 rfl rfl
theorem dksX7_next_3 : cX7_next.data.toList.drop 71 = dktX7_next_3 := dk_seg dksX7_next_2 24 rfl rfl
theorem dksX7_next_4 : cX7_next.data.toList.drop 95 = dktX7_next_4 := dk_seg dksX7_next_3 24 rfl rfl
theorem dksX7_next_5 : cX7_next.data.toList.drop 119 = dktX7_next_5 := dk_seg dksX7_next_4 24 rfl rfl
theorem dksX7_next_6 : cX7_next.data.toList.drop 143 = dktX7_next_6 := dk_seg dksX7_next_5 24 rfl rfl
theorem dksX7_next_7 : cX7_next.data.toList.drop 165 = dktX7_next_7 := dk_seg dksX7_next_6 22 rfl rfl
theorem dksX7_next_8 : cX7_next.data.toList.drop 188 = dktX7_next_8 := dk_seg dksX7_next_7 23 rfl rfl
theorem dksX7_next_9 : cX7_next.data.toList.drop 211 = dktX7_next_9 := dk_seg dksX7_next_8 23 rfl rfl
theorem dksX7_next_10 : cX7_next.data.toList.drop 235 = dktX7_next_10 := dk_seg dksX7_next_9 24 rfl rfl
theorem dX7_next_0 : decode cX7_next 0 = .ok (.aload_n 0, 1) := dk_42 (dk_at dksX7_next_0 0 rfl rfl)
theorem dX7_next_1 : decode cX7_next 1 = .ok (.getfield 41, 3) := dk_180 0 41 (dk_at dksX7_next_0 1 rfl rfl)
theorem dX7_next_4 : decode cX7_next 4 = .ok (.aload_n 0, 1) := dk_42 (dk_at dksX7_next_0 4 rfl rfl)
theorem dX7_next_5 : decode cX7_next 5 = .ok (.getfield 19, 3) := dk_180 0 19 (dk_at dksX7_next_0 5 rfl rfl)
theorem dX7_next_8 : decode cX7_next 8 = .ok (.if_icmp .ge 50, 3) := dk_162 0 50 (dk_at dksX7_next_0 8 rfl rfl)
theorem dX7_next_11 : decode cX7_next 11 = .ok (.aload_n 0, 1) := dk_42 (dk_at dksX7_next_0 11 rfl rfl)
theorem dX7_next_12 : decode cX7_next 12 = .ok (.getfield 3, 3) := dk_180 0 3 (dk_at dksX7_next_0 12 rfl rfl)
theorem dX7_next_15 : decode cX7_next 15 = .ok (.getfield 44, 3) := dk_180 0 44 (dk_at dksX7_next_0 15 rfl rfl)
theorem dX7_next_18 : decode cX7_next 18 = .ok (.aload_n 0, 1) := dk_42 (dk_at dksX7_next_0 18 rfl rfl)
theorem dX7_next_19 : decode cX7_next 19 = .ok (.getfield 41, 3) := dk_180 0 41 (dk_at dksX7_next_0 19 rfl rfl)
theorem dX7_next_22 : decode cX7_next 22 = .ok (.baload, 1) := dk_51 (dk_at dksX7_next_0 22 rfl rfl)
theorem dX7_next_23 : decode cX7_next 23 = .ok (.bipush 32, 2) := dk_16 32 (dk_at dksX7_next_1 0 rfl rfl)
theorem dX7_next_25 : decode cX7_next 25 = .ok (.if_icmp .eq 20, 3) := dk_159 0 20 (dk_at dksX7_next_1 2 rfl rfl)
theorem dX7_next_28 : decode cX7_next 28 = .ok (.aload_n 0, 1) := dk_42 (dk_at dksX7_next_1 5 rfl rfl)
theorem dX7_next_29 : decode cX7_next 29 = .ok (.getfield 3, 3) := dk_180 0 3 (dk_at dksX7_next_1 6 rfl rfl)
theorem dX7_next_32 : decode cX7_next 32 = .ok (.getfield 44, 3) := dk_180 0 44 (dk_at dksX7_next_1 9 rfl rfl)
theorem dX7_next_35 : decode cX7_next 35 = .ok (.aload_n 0, 1) := dk_42 (dk_at dksX7_next_1 12 rfl rfl)
theorem dX7_next_36 : decode cX7_next 36 = .ok (.getfield 41, 3) := dk_180 0 41 (dk_at dksX7_next_1 13 rfl rfl)
theorem dX7_next_39 : decode cX7_next 39 = .ok (.baload, 1) := dk_51 (dk_at dksX7_next_1 16 rfl rfl)
theorem dX7_next_40 : decode cX7_next 40 = .ok (.bipush 10, 2) := dk_16 10 (dk_at dksX7_next_1 17 rfl rfl)
theorem dX7_next_42 : decode cX7_next 42 = .ok (.if_icmp .ne 16, 3) := dk_160 0 16 (dk_at dksX7_next_1 19 rfl rfl)
theorem dX7_next_45 : decode cX7_next 45 = .ok (.aload_n 0, 1) := dk_42 (dk_at dksX7_next_1 22 rfl rfl)
theorem dX7_next_46 : decode cX7_next 46 = .ok (.dup, 1) := dk_89 (dk_at dksX7_next_1 23 rfl rfl)
theorem dX7_next_47 : decode cX7_next 47 = .ok (.getfield 41, 3) := dk_180 0 41 (dk_at dksX7_next_2 0 rfl rfl)
theorem dX7_next_50 : decode cX7_next 50 = .ok (.iconst 1, 1) := dk_4 (dk_at dksX7_next_2 3 rfl rfl)
theorem dX7_next_51 : decode cX7_next 51 = .ok (.iadd, 1) := dk_96 (dk_at dksX7_next_2 4 rfl rfl)
theorem dX7_next_52 : decode cX7_next 52 = .ok (.putfield 41, 3) := dk_181 0 41 (dk_at dksX7_next_2 5 rfl rfl)
theorem dX7_next_55 : decode cX7_next 55 = .ok (.goto (-55), 3) := dk_167 255 201 (dk_at dksX7_next_2 8 rfl rfl)
theorem dX7_next_58 : decode cX7_next 58 = .ok (.aload_n 0, 1) := dk_42 (dk_at dksX7_next_2 11 rfl rfl)
theorem dX7_next_59 : decode cX7_next 59 = .ok (.aload_n 0, 1) := dk_42 (dk_at dksX7_next_2 12 rfl rfl)
theorem dX7_next_60 : decode cX7_next 60 = .ok (.getfield 41, 3) := dk_180 0 41 (dk_at dksX7_next_2 13 rfl rfl)
theorem dX7_next_63 : decode cX7_next 63 = .ok (.putfield 52, 3) := dk_181 0 52 (dk_at dksX7_next_2 16 rfl rfl)
theorem dX7_next_66 : decode cX7_next 66 = .ok (.aload_n 0, 1) := dk_42 (dk_at dksX7_next_2 19 rfl rfl)
theorem dX7_next_67 : decode cX7_next 67 = .ok (.getfield 41, 3) := dk_180 0 41 (dk_at dksX7_next_2 20 rfl rfl)
theorem dX7_next_70 : decode cX7_next 70 = .ok (.aload_n 0, 1) := dk_42 (dk_at dksX7_next_2 23 rfl rfl)
theorem dX7_next_71 : decode cX7_next 71 = .ok (.getfield 19, 3) := dk_180 0 19 (dk_at dksX7_next_3 0 rfl rfl)
theorem dX7_next_74 : decode cX7_next 74 = .ok (.if_icmp .ne 13, 3) := dk_160 0 13 (dk_at dksX7_next_3 3 rfl rfl)
theorem dX7_next_77 : decode cX7_next 77 = .ok (.aload_n 0, 1) := dk_42 (dk_at dksX7_next_3 6 rfl rfl)
theorem dX7_next_78 : decode cX7_next 78 = .ok (.getstatic 29, 3) := dk_178 0 29 (dk_at dksX7_next_3 7 rfl rfl)
theorem dX7_next_81 : decode cX7_next 81 = .ok (.putfield 35, 3) := dk_181 0 35 (dk_at dksX7_next_3 10 rfl rfl)
theorem dX7_next_84 : decode cX7_next 84 = .ok (.goto 170, 3) := dk_167 0 170 (dk_at dksX7_next_3 13 rfl rfl)
theorem dX7_next_87 : decode cX7_next 87 = .ok (.aload_n 0, 1) := dk_42 (dk_at dksX7_next_3 16 rfl rfl)
theorem dX7_next_88 : decode cX7_next 88 = .ok (.bipush 97, 2) := dk_16 97 (dk_at dksX7_next_3 17 rfl rfl)
theorem dX7_next_90 : decode cX7_next 90 = .ok (.bipush 122, 2) := dk_16 122 (dk_at dksX7_next_3 19 rfl rfl)
theorem dX7_next_92 : decode cX7_next 92 = .ok (.invokevirtual 55, 3) := dk_182 0 55 (dk_at dksX7_next_3 21 rfl rfl)
theorem dX7_next_95 : decode cX7_next 95 = .ok (.ifCond .eq 37, 3) := dk_153 0 37 (dk_at dksX7_next_4 0 rfl rfl)
theorem dX7_next_98 : decode cX7_next 98 = .ok (.aload_n 0, 1) := dk_42 (dk_at dksX7_next_4 3 rfl rfl)
theorem dX7_next_99 : decode cX7_next 99 = .ok (.bipush 97, 2) := dk_16 97 (dk_at dksX7_next_4 4 rfl rfl)
theorem dX7_next_101 : decode cX7_next 101 = .ok (.bipush 122, 2) := dk_16 122 (dk_at dksX7_next_4 6 rfl rfl)
theorem dX7_next_103 : decode cX7_next 103 = .ok (.invokevirtual 55, 3) := dk_182 0 55 (dk_at dksX7_next_4 8 rfl rfl)
theorem dX7_next_106 : decode cX7_next 106 = .ok (.ifCond .eq 16, 3) := dk_153 0 16 (dk_at dksX7_next_4 11 rfl rfl)
theorem dX7_next_109 : decode cX7_next 109 = .ok (.aload_n 0, 1) := dk_42 (dk_at dksX7_next_4 14 rfl rfl)
theorem dX7_next_110 : decode cX7_next 110 = .ok (.dup, 1) := dk_89 (dk_at dksX7_next_4 15 rfl rfl)
theorem dX7_next_111 : decode cX7_next 111 = .ok (.getfield 41, 3) := dk_180 0 41 (dk_at dksX7_next_4 16 rfl rfl)
theorem dX7_next_114 : decode cX7_next 114 = .ok (.iconst 1, 1) := dk_4 (dk_at dksX7_next_4 19 rfl rfl)
theorem dX7_next_115 : decode cX7_next 115 = .ok (.iadd, 1) := dk_96 (dk_at dksX7_next_4 20 rfl rfl)
theorem dX7_next_116 : decode cX7_next 116 = .ok (.putfield 41, 3) := dk_181 0 41 (dk_at dksX7_next_4 21 rfl rfl)
theorem dX7_next_119 : decode cX7_next 119 = .ok (.goto (-21), 3) := dk_167 255 235 (dk_at dksX7_next_5 0 rfl rfl)
theorem dX7_next_122 : decode cX7_next 122 = .ok (.aload_n 0, 1) := dk_42 (dk_at dksX7_next_5 3 rfl rfl)
theorem dX7_next_123 : decode cX7_next 123 = .ok (.getstatic 59, 3) := dk_178 0 59 (dk_at dksX7_next_5 4 rfl rfl)
theorem dX7_next_126 : decode cX7_next 126 = .ok (.putfield 35, 3) := dk_181 0 35 (dk_at dksX7_next_5 7 rfl rfl)
theorem dX7_next_129 : decode cX7_next 129 = .ok (.goto 125, 3) := dk_167 0 125 (dk_at dksX7_next_5 10 rfl rfl)
theorem dX7_next_132 : decode cX7_next 132 = .ok (.aload_n 0, 1) := dk_42 (dk_at dksX7_next_5 13 rfl rfl)
theorem dX7_next_133 : decode cX7_next 133 = .ok (.bipush 48, 2) := dk_16 48 (dk_at dksX7_next_5 14 rfl rfl)
theorem dX7_next_135 : decode cX7_next 135 = .ok (.bipush 57, 2) := dk_16 57 (dk_at dksX7_next_5 16 rfl rfl)
theorem dX7_next_137 : decode cX7_next 137 = .ok (.invokevirtual 55, 3) := dk_182 0 55 (dk_at dksX7_next_5 18 rfl rfl)
theorem dX7_next_140 : decode cX7_next 140 = .ok (.ifCond .eq 74, 3) := dk_153 0 74 (dk_at dksX7_next_5 21 rfl rfl)
theorem dX7_next_143 : decode cX7_next 143 = .ok (.aload_n 0, 1) := dk_42 (dk_at dksX7_next_6 0 rfl rfl)
theorem dX7_next_144 : decode cX7_next 144 = .ok (.iconst 0, 1) := dk_3 (dk_at dksX7_next_6 1 rfl rfl)
theorem dX7_next_145 : decode cX7_next 145 = .ok (.putfield 62, 3) := dk_181 0 62 (dk_at dksX7_next_6 2 rfl rfl)
theorem dX7_next_148 : decode cX7_next 148 = .ok (.aload_n 0, 1) := dk_42 (dk_at dksX7_next_6 5 rfl rfl)
theorem dX7_next_149 : decode cX7_next 149 = .ok (.bipush 48, 2) := dk_16 48 (dk_at dksX7_next_6 6 rfl rfl)
theorem dX7_next_151 : decode cX7_next 151 = .ok (.bipush 57, 2) := dk_16 57 (dk_at dksX7_next_6 8 rfl rfl)
theorem dX7_next_153 : decode cX7_next 153 = .ok (.invokevirtual 55, 3) := dk_182 0 55 (dk_at dksX7_next_6 10 rfl rfl)
theorem dX7_next_156 : decode cX7_next 156 = .ok (.ifCond .eq 48, 3) := dk_153 0 48 (dk_at dksX7_next_6 13 rfl rfl)
theorem dX7_next_159 : decode cX7_next 159 = .ok (.aload_n 0, 1) := dk_42 (dk_at dksX7_next_6 16 rfl rfl)
theorem dX7_next_160 : decode cX7_next 160 = .ok (.ldc 65, 2) := dk_18 65 (dk_at dksX7_next_6 17 rfl rfl)
theorem dX7_next_162 : decode cX7_next 162 = .ok (.bipush 10, 2) := dk_16 10 (dk_at dksX7_next_6 19 rfl rfl)
theorem dX7_next_164 : decode cX7_next 164 = .ok (.aload_n 0, 1) := dk_42 (dk_at dksX7_next_6 21 rfl rfl)
theorem dX7_next_165 : decode cX7_next 165 = .ok (.getfield 62, 3) := dk_180 0 62 (dk_at dksX7_next_7 0 rfl rfl)
theorem dX7_next_168 : decode cX7_next 168 = .ok (.imul, 1) := dk_104 (dk_at dksX7_next_7 3 rfl rfl)
theorem dX7_next_169 : decode cX7_next 169 = .ok (.aload_n 0, 1) := dk_42 (dk_at dksX7_next_7 4 rfl rfl)
theorem dX7_next_170 : decode cX7_next 170 = .ok (.getfield 3, 3) := dk_180 0 3 (dk_at dksX7_next_7 5 rfl rfl)
theorem dX7_next_173 : decode cX7_next 173 = .ok (.getfield 44, 3) := dk_180 0 44 (dk_at dksX7_next_7 8 rfl rfl)
theorem dX7_next_176 : decode cX7_next 176 = .ok (.aload_n 0, 1) := dk_42 (dk_at dksX7_next_7 11 rfl rfl)
theorem dX7_next_177 : decode cX7_next 177 = .ok (.getfield 41, 3) := dk_180 0 41 (dk_at dksX7_next_7 12 rfl rfl)
theorem dX7_next_180 : decode cX7_next 180 = .ok (.baload, 1) := dk_51 (dk_at dksX7_next_7 15 rfl rfl)
theorem dX7_next_181 : decode cX7_next 181 = .ok (.iadd, 1) := dk_96 (dk_at dksX7_next_7 16 rfl rfl)
theorem dX7_next_182 : decode cX7_next 182 = .ok (.bipush 48, 2) := dk_16 48 (dk_at dksX7_next_7 17 rfl rfl)
theorem dX7_next_184 : decode cX7_next 184 = .ok (.isub, 1) := dk_100 (dk_at dksX7_next_7 19 rfl rfl)
theorem dX7_next_185 : decode cX7_next 185 = .ok (.invokestatic 66, 3) := dk_184 0 66 (dk_at dksX7_next_7 20 rfl rfl)
theorem dX7_next_188 : decode cX7_next 188 = .ok (.putfield 62, 3) := dk_181 0 62 (dk_at dksX7_next_8 0 rfl rfl)
theorem dX7_next_191 : decode cX7_next 191 = .ok (.aload_n 0, 1) := dk_42 (dk_at dksX7_next_8 3 rfl rfl)
theorem dX7_next_192 : decode cX7_next 192 = .ok (.dup, 1) := dk_89 (dk_at dksX7_next_8 4 rfl rfl)
theorem dX7_next_193 : decode cX7_next 193 = .ok (.getfield 41, 3) := dk_180 0 41 (dk_at dksX7_next_8 5 rfl rfl)
theorem dX7_next_196 : decode cX7_next 196 = .ok (.iconst 1, 1) := dk_4 (dk_at dksX7_next_8 8 rfl rfl)
theorem dX7_next_197 : decode cX7_next 197 = .ok (.iadd, 1) := dk_96 (dk_at dksX7_next_8 9 rfl rfl)
theorem dX7_next_198 : decode cX7_next 198 = .ok (.putfield 41, 3) := dk_181 0 41 (dk_at dksX7_next_8 10 rfl rfl)
theorem dX7_next_201 : decode cX7_next 201 = .ok (.goto (-53), 3) := dk_167 255 203 (dk_at dksX7_next_8 13 rfl rfl)
theorem dX7_next_204 : decode cX7_next 204 = .ok (.aload_n 0, 1) := dk_42 (dk_at dksX7_next_8 16 rfl rfl)
theorem dX7_next_205 : decode cX7_next 205 = .ok (.getstatic 72, 3) := dk_178 0 72 (dk_at dksX7_next_8 17 rfl rfl)
theorem dX7_next_208 : decode cX7_next 208 = .ok (.putfield 35, 3) := dk_181 0 35 (dk_at dksX7_next_8 20 rfl rfl)
theorem dX7_next_211 : decode cX7_next 211 = .ok (.goto 43, 3) := dk_167 0 43 (dk_at dksX7_next_9 0 rfl rfl)
theorem dX7_next_214 : decode cX7_next 214 = .ok (.aload_n 0, 1) := dk_42 (dk_at dksX7_next_9 3 rfl rfl)
theorem dX7_next_215 : decode cX7_next 215 = .ok (.aload_n 0, 1) := dk_42 (dk_at dksX7_next_9 4 rfl rfl)
theorem dX7_next_216 : decode cX7_next 216 = .ok (.getfield 3, 3) := dk_180 0 3 (dk_at dksX7_next_9 5 rfl rfl)
theorem dX7_next_219 : decode cX7_next 219 = .ok (.getfield 44, 3) := dk_180 0 44 (dk_at dksX7_next_9 8 rfl rfl)
theorem dX7_next_222 : decode cX7_next 222 = .ok (.aload_n 0, 1) := dk_42 (dk_at dksX7_next_9 11 rfl rfl)
theorem dX7_next_223 : decode cX7_next 223 = .ok (.getfield 41, 3) := dk_180 0 41 (dk_at dksX7_next_9 12 rfl rfl)
theorem dX7_next_226 : decode cX7_next 226 = .ok (.baload, 1) := dk_51 (dk_at dksX7_next_9 15 rfl rfl)
theorem dX7_next_227 : decode cX7_next 227 = .ok (.bipush 59, 2) := dk_16 59 (dk_at dksX7_next_9 16 rfl rfl)
theorem dX7_next_229 : decode cX7_next 229 = .ok (.if_icmp .ne 9, 3) := dk_160 0 9 (dk_at dksX7_next_9 18 rfl rfl)
theorem dX7_next_232 : decode cX7_next 232 = .ok (.getstatic 75, 3) := dk_178 0 75 (dk_at dksX7_next_9 21 rfl rfl)
theorem dX7_next_235 : decode cX7_next 235 = .ok (.goto 6, 3) := dk_167 0 6 (dk_at dksX7_next_10 0 rfl rfl)
theorem dX7_next_238 : decode cX7_next 238 = .ok (.getstatic 78, 3) := dk_178 0 78 (dk_at dksX7_next_10 3 rfl rfl)
theorem dX7_next_241 : decode cX7_next 241 = .ok (.putfield 35, 3) := dk_181 0 35 (dk_at dksX7_next_10 6 rfl rfl)
theorem dX7_next_244 : decode cX7_next 244 = .ok (.aload_n 0, 1) := dk_42 (dk_at dksX7_next_10 9 rfl rfl)
theorem dX7_next_245 : decode cX7_next 245 = .ok (.dup, 1) := dk_89 (dk_at dksX7_next_10 10 rfl rfl)
theorem dX7_next_246 : decode cX7_next 246 = .ok (.getfield 41, 3) := dk_180 0 41 (dk_at dksX7_next_10 11 rfl rfl)
theorem dX7_next_249 : decode cX7_next 249 = .ok (.iconst 1, 1) := dk_4 (dk_at dksX7_next_10 14 rfl rfl)
theorem dX7_next_250 : decode cX7_next 250 = .ok (.iadd, 1) := dk_96 (dk_at dksX7_next_10 15 rfl rfl)
theorem dX7_next_251 : decode cX7_next 251 = .ok (.putfield 41, 3) := dk_181 0 41 (dk_at dksX7_next_10 16 rfl rfl)
theorem dX7_next_254 : decode cX7_next 254 = .ok (.return_, 1) := dk_177 (dk_at dksX7_next_10 19 rfl rfl)
abbrev cX7_isNext : ByteArray := prog_14_method_2_code
def yX7_isNext : MethodName := ⟨RX7, "isNext", "(II)Z"⟩
def dkwX7_isNext_1 : List UInt8 := [27, 133, 28, 133, 184, 0, 48, 153, 0, 7, 4, 167, 0, 4, 3, 172]
abbrev dktX7_isNext_1 : List UInt8 := dkwX7_isNext_1 ++ []
def dkwX7_isNext_0 : List UInt8 := [42, 180, 0, 41, 42, 180, 0, 19, 162, 0, 30, 42, 180, 0, 3, 180, 0, 44, 42, 180, 0, 41, 51, 133]
abbrev dktX7_isNext_0 : List UInt8 := dkwX7_isNext_0 ++ dktX7_isNext_1
theorem dksX7_isNext_0 : cX7_isNext.data.toList.drop 0 = dktX7_isNext_0 := by decide +kernel
theorem dksX7_isNext_1 : cX7_isNext.data.toList.drop 24 = dktX7_isNext_1 := dk_seg dksX7_isNext_0 24 rfl rfl
theorem dX7_isNext_0 : decode cX7_isNext 0 = .ok (.aload_n 0, 1) := dk_42 (dk_at dksX7_isNext_0 0 rfl rfl)
theorem dX7_isNext_1 : decode cX7_isNext 1 = .ok (.getfield 41, 3) := dk_180 0 41 (dk_at dksX7_isNext_0 1 rfl rfl)
theorem dX7_isNext_4 : decode cX7_isNext 4 = .ok (.aload_n 0, 1) := dk_42 (dk_at dksX7_isNext_0 4 rfl rfl)
theorem dX7_isNext_5 : decode cX7_isNext 5 = .ok (.getfield 19, 3) := dk_180 0 19 (dk_at dksX7_isNext_0 5 rfl rfl)
theorem dX7_isNext_8 : decode cX7_isNext 8 = .ok (.if_icmp .ge 30, 3) := dk_162 0 30 (dk_at dksX7_isNext_0 8 rfl rfl)
theorem dX7_isNext_11 : decode cX7_isNext 11 = .ok (.aload_n 0, 1) := dk_42 (dk_at dksX7_isNext_0 11 rfl rfl)
theorem dX7_isNext_12 : decode cX7_isNext 12 = .ok (.getfield 3, 3) := dk_180 0 3 (dk_at dksX7_isNext_0 12 rfl rfl)
theorem dX7_isNext_15 : decode cX7_isNext 15 = .ok (.getfield 44, 3) := dk_180 0 44 (dk_at dksX7_isNext_0 15 rfl rfl)
theorem dX7_isNext_18 : decode cX7_isNext 18 = .ok (.aload_n 0, 1) := dk_42 (dk_at dksX7_isNext_0 18 rfl rfl)
theorem dX7_isNext_19 : decode cX7_isNext 19 = .ok (.getfield 41, 3) := dk_180 0 41 (dk_at dksX7_isNext_0 19 rfl rfl)
theorem dX7_isNext_22 : decode cX7_isNext 22 = .ok (.baload, 1) := dk_51 (dk_at dksX7_isNext_0 22 rfl rfl)
theorem dX7_isNext_23 : decode cX7_isNext 23 = .ok (.i2l, 1) := dk_133 (dk_at dksX7_isNext_0 23 rfl rfl)
theorem dX7_isNext_24 : decode cX7_isNext 24 = .ok (.iload_n 1, 1) := dk_27 (dk_at dksX7_isNext_1 0 rfl rfl)
theorem dX7_isNext_25 : decode cX7_isNext 25 = .ok (.i2l, 1) := dk_133 (dk_at dksX7_isNext_1 1 rfl rfl)
theorem dX7_isNext_26 : decode cX7_isNext 26 = .ok (.iload_n 2, 1) := dk_28 (dk_at dksX7_isNext_1 2 rfl rfl)
theorem dX7_isNext_27 : decode cX7_isNext 27 = .ok (.i2l, 1) := dk_133 (dk_at dksX7_isNext_1 3 rfl rfl)
theorem dX7_isNext_28 : decode cX7_isNext 28 = .ok (.invokestatic 48, 3) := dk_184 0 48 (dk_at dksX7_isNext_1 4 rfl rfl)
theorem dX7_isNext_31 : decode cX7_isNext 31 = .ok (.ifCond .eq 7, 3) := dk_153 0 7 (dk_at dksX7_isNext_1 7 rfl rfl)
theorem dX7_isNext_34 : decode cX7_isNext 34 = .ok (.iconst 1, 1) := dk_4 (dk_at dksX7_isNext_1 10 rfl rfl)
theorem dX7_isNext_35 : decode cX7_isNext 35 = .ok (.goto 4, 3) := dk_167 0 4 (dk_at dksX7_isNext_1 11 rfl rfl)
theorem dX7_isNext_38 : decode cX7_isNext 38 = .ok (.iconst 0, 1) := dk_3 (dk_at dksX7_isNext_1 14 rfl rfl)
theorem dX7_isNext_39 : decode cX7_isNext 39 = .ok (.ireturn, 1) := dk_172 (dk_at dksX7_isNext_1 15 rfl rfl)
abbrev cX7_read : ByteArray := prog_14_method_21_code
def yX7_read : MethodName := ⟨RX7, "read", "()LLockRail$Rail;"⟩
def dkwX7_read_2 : List UInt8 := [182, 0, 38, 42, 180, 0, 25, 89, 180, 1, 14, 4, 96, 181, 1, 14, 167, 255, 192, 42, 180, 0, 25, 176]
abbrev dktX7_read_2 : List UInt8 := dkwX7_read_2 ++ []
def dkwX7_read_1 : List UInt8 := [167, 0, 7, 42, 182, 1, 20, 42, 180, 0, 35, 178, 0, 75, 165, 0, 9, 42, 4, 182, 0, 103, 191, 42]
abbrev dktX7_read_1 : List UInt8 := dkwX7_read_1 ++ dktX7_read_2
def dkwX7_read_0 : List UInt8 := [42, 180, 0, 35, 178, 0, 29, 165, 0, 60, 42, 180, 0, 25, 180, 1, 14, 154, 0, 10, 42, 182, 1, 17]
abbrev dktX7_read_0 : List UInt8 := dkwX7_read_0 ++ dktX7_read_1
theorem dksX7_read_0 : cX7_read.data.toList.drop 0 = dktX7_read_0 := by decide +kernel
theorem dksX7_read_1 : cX7_read.data.toList.drop 24 = dktX7_read_1 := dk_seg dksX7_read_0 24 rfl rfl
theorem dksX7_read_2 : cX7_read.data.toList.drop 48 = dktX7_read_2 := dk_seg dksX7_read_1 24 rfl rfl
theorem dX7_read_0 : decode cX7_read 0 = .ok (.aload_n 0, 1) := dk_42 (dk_at dksX7_read_0 0 rfl rfl)
theorem dX7_read_1 : decode cX7_read 1 = .ok (.getfield 35, 3) := dk_180 0 35 (dk_at dksX7_read_0 1 rfl rfl)
theorem dX7_read_4 : decode cX7_read 4 = .ok (.getstatic 29, 3) := dk_178 0 29 (dk_at dksX7_read_0 4 rfl rfl)
theorem dX7_read_7 : decode cX7_read 7 = .ok (.if_acmp .eq 60, 3) := dk_165 0 60 (dk_at dksX7_read_0 7 rfl rfl)
theorem dX7_read_10 : decode cX7_read 10 = .ok (.aload_n 0, 1) := dk_42 (dk_at dksX7_read_0 10 rfl rfl)
theorem dX7_read_11 : decode cX7_read 11 = .ok (.getfield 25, 3) := dk_180 0 25 (dk_at dksX7_read_0 11 rfl rfl)
theorem dX7_read_14 : decode cX7_read 14 = .ok (.getfield 270, 3) := dk_180 1 14 (dk_at dksX7_read_0 14 rfl rfl)
theorem dX7_read_17 : decode cX7_read 17 = .ok (.ifCond .ne 10, 3) := dk_154 0 10 (dk_at dksX7_read_0 17 rfl rfl)
theorem dX7_read_20 : decode cX7_read 20 = .ok (.aload_n 0, 1) := dk_42 (dk_at dksX7_read_0 20 rfl rfl)
theorem dX7_read_21 : decode cX7_read 21 = .ok (.invokevirtual 273, 3) := dk_182 1 17 (dk_at dksX7_read_0 21 rfl rfl)
theorem dX7_read_24 : decode cX7_read 24 = .ok (.goto 7, 3) := dk_167 0 7 (dk_at dksX7_read_1 0 rfl rfl)
theorem dX7_read_27 : decode cX7_read 27 = .ok (.aload_n 0, 1) := dk_42 (dk_at dksX7_read_1 3 rfl rfl)
theorem dX7_read_28 : decode cX7_read 28 = .ok (.invokevirtual 276, 3) := dk_182 1 20 (dk_at dksX7_read_1 4 rfl rfl)
theorem dX7_read_31 : decode cX7_read 31 = .ok (.aload_n 0, 1) := dk_42 (dk_at dksX7_read_1 7 rfl rfl)
theorem dX7_read_32 : decode cX7_read 32 = .ok (.getfield 35, 3) := dk_180 0 35 (dk_at dksX7_read_1 8 rfl rfl)
theorem dX7_read_35 : decode cX7_read 35 = .ok (.getstatic 75, 3) := dk_178 0 75 (dk_at dksX7_read_1 11 rfl rfl)
theorem dX7_read_38 : decode cX7_read 38 = .ok (.if_acmp .eq 9, 3) := dk_165 0 9 (dk_at dksX7_read_1 14 rfl rfl)
theorem dX7_read_41 : decode cX7_read 41 = .ok (.aload_n 0, 1) := dk_42 (dk_at dksX7_read_1 17 rfl rfl)
theorem dX7_read_42 : decode cX7_read 42 = .ok (.iconst 1, 1) := dk_4 (dk_at dksX7_read_1 18 rfl rfl)
theorem dX7_read_43 : decode cX7_read 43 = .ok (.invokevirtual 103, 3) := dk_182 0 103 (dk_at dksX7_read_1 19 rfl rfl)
theorem dX7_read_46 : decode cX7_read 46 = .ok (.athrow, 1) := dk_191 (dk_at dksX7_read_1 22 rfl rfl)
theorem dX7_read_47 : decode cX7_read 47 = .ok (.aload_n 0, 1) := dk_42 (dk_at dksX7_read_1 23 rfl rfl)
theorem dX7_read_48 : decode cX7_read 48 = .ok (.invokevirtual 38, 3) := dk_182 0 38 (dk_at dksX7_read_2 0 rfl rfl)
theorem dX7_read_51 : decode cX7_read 51 = .ok (.aload_n 0, 1) := dk_42 (dk_at dksX7_read_2 3 rfl rfl)
theorem dX7_read_52 : decode cX7_read 52 = .ok (.getfield 25, 3) := dk_180 0 25 (dk_at dksX7_read_2 4 rfl rfl)
theorem dX7_read_55 : decode cX7_read 55 = .ok (.dup, 1) := dk_89 (dk_at dksX7_read_2 7 rfl rfl)
theorem dX7_read_56 : decode cX7_read 56 = .ok (.getfield 270, 3) := dk_180 1 14 (dk_at dksX7_read_2 8 rfl rfl)
theorem dX7_read_59 : decode cX7_read 59 = .ok (.iconst 1, 1) := dk_4 (dk_at dksX7_read_2 11 rfl rfl)
theorem dX7_read_60 : decode cX7_read 60 = .ok (.iadd, 1) := dk_96 (dk_at dksX7_read_2 12 rfl rfl)
theorem dX7_read_61 : decode cX7_read 61 = .ok (.putfield 270, 3) := dk_181 1 14 (dk_at dksX7_read_2 13 rfl rfl)
theorem dX7_read_64 : decode cX7_read 64 = .ok (.goto (-64), 3) := dk_167 255 192 (dk_at dksX7_read_2 16 rfl rfl)
theorem dX7_read_67 : decode cX7_read 67 = .ok (.aload_n 0, 1) := dk_42 (dk_at dksX7_read_2 19 rfl rfl)
theorem dX7_read_68 : decode cX7_read 68 = .ok (.getfield 25, 3) := dk_180 0 25 (dk_at dksX7_read_2 20 rfl rfl)
theorem dX7_read_71 : decode cX7_read 71 = .ok (.areturn, 1) := dk_176 (dk_at dksX7_read_2 23 rfl rfl)
abbrev cX7_first : ByteArray := prog_14_method_11_code
def yX7_first : MethodName := ⟨RX7, "first", "()V"⟩
def dkwX7_first_1 : List UInt8 := [180, 0, 25, 42, 18, 124, 4, 16, 60, 182, 0, 118, 181, 0, 126, 177]
abbrev dktX7_first_1 : List UInt8 := dkwX7_first_1 ++ []
def dkwX7_first_0 : List UInt8 := [42, 18, 122, 182, 0, 107, 42, 180, 0, 25, 42, 18, 123, 4, 16, 20, 182, 0, 118, 181, 0, 115, 42]
abbrev dktX7_first_0 : List UInt8 := dkwX7_first_0 ++ dktX7_first_1
theorem dksX7_first_0 : cX7_first.data.toList.drop 0 = dktX7_first_0 := by decide +kernel
theorem dksX7_first_1 : cX7_first.data.toList.drop 23 = dktX7_first_1 := dk_seg dksX7_first_0 23 rfl rfl
theorem dX7_first_0 : decode cX7_first 0 = .ok (.aload_n 0, 1) := dk_42 (dk_at dksX7_first_0 0 rfl rfl)
theorem dX7_first_1 : decode cX7_first 1 = .ok (.ldc 122, 2) := dk_18 122 (dk_at dksX7_first_0 1 rfl rfl)
theorem dX7_first_3 : decode cX7_first 3 = .ok (.invokevirtual 107, 3) := dk_182 0 107 (dk_at dksX7_first_0 3 rfl rfl)
theorem dX7_first_6 : decode cX7_first 6 = .ok (.aload_n 0, 1) := dk_42 (dk_at dksX7_first_0 6 rfl rfl)
theorem dX7_first_7 : decode cX7_first 7 = .ok (.getfield 25, 3) := dk_180 0 25 (dk_at dksX7_first_0 7 rfl rfl)
theorem dX7_first_10 : decode cX7_first 10 = .ok (.aload_n 0, 1) := dk_42 (dk_at dksX7_first_0 10 rfl rfl)
theorem dX7_first_11 : decode cX7_first 11 = .ok (.ldc 123, 2) := dk_18 123 (dk_at dksX7_first_0 11 rfl rfl)
theorem dX7_first_13 : decode cX7_first 13 = .ok (.iconst 1, 1) := dk_4 (dk_at dksX7_first_0 13 rfl rfl)
theorem dX7_first_14 : decode cX7_first 14 = .ok (.bipush 20, 2) := dk_16 20 (dk_at dksX7_first_0 14 rfl rfl)
theorem dX7_first_16 : decode cX7_first 16 = .ok (.invokevirtual 118, 3) := dk_182 0 118 (dk_at dksX7_first_0 16 rfl rfl)
theorem dX7_first_19 : decode cX7_first 19 = .ok (.putfield 115, 3) := dk_181 0 115 (dk_at dksX7_first_0 19 rfl rfl)
theorem dX7_first_22 : decode cX7_first 22 = .ok (.aload_n 0, 1) := dk_42 (dk_at dksX7_first_0 22 rfl rfl)
theorem dX7_first_23 : decode cX7_first 23 = .ok (.getfield 25, 3) := dk_180 0 25 (dk_at dksX7_first_1 0 rfl rfl)
theorem dX7_first_26 : decode cX7_first 26 = .ok (.aload_n 0, 1) := dk_42 (dk_at dksX7_first_1 3 rfl rfl)
theorem dX7_first_27 : decode cX7_first 27 = .ok (.ldc 124, 2) := dk_18 124 (dk_at dksX7_first_1 4 rfl rfl)
theorem dX7_first_29 : decode cX7_first 29 = .ok (.iconst 1, 1) := dk_4 (dk_at dksX7_first_1 6 rfl rfl)
theorem dX7_first_30 : decode cX7_first 30 = .ok (.bipush 60, 2) := dk_16 60 (dk_at dksX7_first_1 7 rfl rfl)
theorem dX7_first_32 : decode cX7_first 32 = .ok (.invokevirtual 118, 3) := dk_182 0 118 (dk_at dksX7_first_1 9 rfl rfl)
theorem dX7_first_35 : decode cX7_first 35 = .ok (.putfield 126, 3) := dk_181 0 126 (dk_at dksX7_first_1 12 rfl rfl)
theorem dX7_first_38 : decode cX7_first 38 = .ok (.return_, 1) := dk_177 (dk_at dksX7_first_1 15 rfl rfl)
abbrev cX7_needs : ByteArray := prog_14_method_7_code
def yX7_needs : MethodName := ⟨RX7, "needs", "(Ljava/lang/String;)V"⟩
def dkwX7_needs_0 : List UInt8 := [42, 43, 182, 0, 100, 154, 0, 9, 42, 4, 182, 0, 103, 191, 177]
abbrev dktX7_needs_0 : List UInt8 := dkwX7_needs_0 ++ []
theorem dksX7_needs_0 : cX7_needs.data.toList.drop 0 = dktX7_needs_0 := by decide +kernel
theorem dX7_needs_0 : decode cX7_needs 0 = .ok (.aload_n 0, 1) := dk_42 (dk_at dksX7_needs_0 0 rfl rfl)
theorem dX7_needs_1 : decode cX7_needs 1 = .ok (.aload_n 1, 1) := dk_43 (dk_at dksX7_needs_0 1 rfl rfl)
theorem dX7_needs_2 : decode cX7_needs 2 = .ok (.invokevirtual 100, 3) := dk_182 0 100 (dk_at dksX7_needs_0 2 rfl rfl)
theorem dX7_needs_5 : decode cX7_needs 5 = .ok (.ifCond .ne 9, 3) := dk_154 0 9 (dk_at dksX7_needs_0 5 rfl rfl)
theorem dX7_needs_8 : decode cX7_needs 8 = .ok (.aload_n 0, 1) := dk_42 (dk_at dksX7_needs_0 8 rfl rfl)
theorem dX7_needs_9 : decode cX7_needs 9 = .ok (.iconst 1, 1) := dk_4 (dk_at dksX7_needs_0 9 rfl rfl)
theorem dX7_needs_10 : decode cX7_needs 10 = .ok (.invokevirtual 103, 3) := dk_182 0 103 (dk_at dksX7_needs_0 10 rfl rfl)
theorem dX7_needs_13 : decode cX7_needs 13 = .ok (.athrow, 1) := dk_191 (dk_at dksX7_needs_0 13 rfl rfl)
theorem dX7_needs_14 : decode cX7_needs 14 = .ok (.return_, 1) := dk_177 (dk_at dksX7_needs_0 14 rfl rfl)
abbrev cX7_takes : ByteArray := prog_14_method_6_code
def yX7_takes : MethodName := ⟨RX7, "takes", "(Ljava/lang/String;)Z"⟩
def dkwX7_takes_0 : List UInt8 := [42, 43, 182, 0, 96, 61, 28, 153, 0, 7, 42, 182, 0, 38, 28, 172]
abbrev dktX7_takes_0 : List UInt8 := dkwX7_takes_0 ++ []
theorem dksX7_takes_0 : cX7_takes.data.toList.drop 0 = dktX7_takes_0 := by decide +kernel
theorem dX7_takes_0 : decode cX7_takes 0 = .ok (.aload_n 0, 1) := dk_42 (dk_at dksX7_takes_0 0 rfl rfl)
theorem dX7_takes_1 : decode cX7_takes 1 = .ok (.aload_n 1, 1) := dk_43 (dk_at dksX7_takes_0 1 rfl rfl)
theorem dX7_takes_2 : decode cX7_takes 2 = .ok (.invokevirtual 96, 3) := dk_182 0 96 (dk_at dksX7_takes_0 2 rfl rfl)
theorem dX7_takes_5 : decode cX7_takes 5 = .ok (.istore_n 2, 1) := dk_61 (dk_at dksX7_takes_0 5 rfl rfl)
theorem dX7_takes_6 : decode cX7_takes 6 = .ok (.iload_n 2, 1) := dk_28 (dk_at dksX7_takes_0 6 rfl rfl)
theorem dX7_takes_7 : decode cX7_takes 7 = .ok (.ifCond .eq 7, 3) := dk_153 0 7 (dk_at dksX7_takes_0 7 rfl rfl)
theorem dX7_takes_10 : decode cX7_takes 10 = .ok (.aload_n 0, 1) := dk_42 (dk_at dksX7_takes_0 10 rfl rfl)
theorem dX7_takes_11 : decode cX7_takes 11 = .ok (.invokevirtual 38, 3) := dk_182 0 38 (dk_at dksX7_takes_0 11 rfl rfl)
theorem dX7_takes_14 : decode cX7_takes 14 = .ok (.iload_n 2, 1) := dk_28 (dk_at dksX7_takes_0 14 rfl rfl)
theorem dX7_takes_15 : decode cX7_takes 15 = .ok (.ireturn, 1) := dk_172 (dk_at dksX7_takes_0 15 rfl rfl)
abbrev cX7_is : ByteArray := prog_14_method_5_code
def yX7_is : MethodName := ⟨RX7, "is", "(Ljava/lang/String;)Z"⟩
def dkwX7_is_2 : List UInt8 := [180, 0, 52, 28, 96, 51, 43, 28, 182, 0, 92, 159, 0, 5, 3, 172, 132, 2, 1, 167, 255, 221, 4, 172]
abbrev dktX7_is_2 : List UInt8 := dkwX7_is_2 ++ []
def dkwX7_is_1 : List UInt8 := [159, 0, 5, 3, 172, 3, 61, 28, 43, 182, 0, 86, 162, 0, 33, 42, 180, 0, 3, 180, 0, 44, 42]
abbrev dktX7_is_1 : List UInt8 := dkwX7_is_1 ++ dktX7_is_2
def dkwX7_is_0 : List UInt8 := [42, 180, 0, 35, 178, 0, 59, 166, 0, 19, 42, 180, 0, 41, 42, 180, 0, 52, 100, 43, 182, 0, 86]
abbrev dktX7_is_0 : List UInt8 := dkwX7_is_0 ++ dktX7_is_1
theorem dksX7_is_0 : cX7_is.data.toList.drop 0 = dktX7_is_0 := by decide +kernel
theorem dksX7_is_1 : cX7_is.data.toList.drop 23 = dktX7_is_1 := dk_seg dksX7_is_0 23 rfl rfl
theorem dksX7_is_2 : cX7_is.data.toList.drop 46 = dktX7_is_2 := dk_seg dksX7_is_1 23 rfl rfl
theorem dX7_is_0 : decode cX7_is 0 = .ok (.aload_n 0, 1) := dk_42 (dk_at dksX7_is_0 0 rfl rfl)
theorem dX7_is_1 : decode cX7_is 1 = .ok (.getfield 35, 3) := dk_180 0 35 (dk_at dksX7_is_0 1 rfl rfl)
theorem dX7_is_4 : decode cX7_is 4 = .ok (.getstatic 59, 3) := dk_178 0 59 (dk_at dksX7_is_0 4 rfl rfl)
theorem dX7_is_7 : decode cX7_is 7 = .ok (.if_acmp .ne 19, 3) := dk_166 0 19 (dk_at dksX7_is_0 7 rfl rfl)
theorem dX7_is_10 : decode cX7_is 10 = .ok (.aload_n 0, 1) := dk_42 (dk_at dksX7_is_0 10 rfl rfl)
theorem dX7_is_11 : decode cX7_is 11 = .ok (.getfield 41, 3) := dk_180 0 41 (dk_at dksX7_is_0 11 rfl rfl)
theorem dX7_is_14 : decode cX7_is 14 = .ok (.aload_n 0, 1) := dk_42 (dk_at dksX7_is_0 14 rfl rfl)
theorem dX7_is_15 : decode cX7_is 15 = .ok (.getfield 52, 3) := dk_180 0 52 (dk_at dksX7_is_0 15 rfl rfl)
theorem dX7_is_18 : decode cX7_is 18 = .ok (.isub, 1) := dk_100 (dk_at dksX7_is_0 18 rfl rfl)
theorem dX7_is_19 : decode cX7_is 19 = .ok (.aload_n 1, 1) := dk_43 (dk_at dksX7_is_0 19 rfl rfl)
theorem dX7_is_20 : decode cX7_is 20 = .ok (.invokevirtual 86, 3) := dk_182 0 86 (dk_at dksX7_is_0 20 rfl rfl)
theorem dX7_is_23 : decode cX7_is 23 = .ok (.if_icmp .eq 5, 3) := dk_159 0 5 (dk_at dksX7_is_1 0 rfl rfl)
theorem dX7_is_26 : decode cX7_is 26 = .ok (.iconst 0, 1) := dk_3 (dk_at dksX7_is_1 3 rfl rfl)
theorem dX7_is_27 : decode cX7_is 27 = .ok (.ireturn, 1) := dk_172 (dk_at dksX7_is_1 4 rfl rfl)
theorem dX7_is_28 : decode cX7_is 28 = .ok (.iconst 0, 1) := dk_3 (dk_at dksX7_is_1 5 rfl rfl)
theorem dX7_is_29 : decode cX7_is 29 = .ok (.istore_n 2, 1) := dk_61 (dk_at dksX7_is_1 6 rfl rfl)
theorem dX7_is_30 : decode cX7_is 30 = .ok (.iload_n 2, 1) := dk_28 (dk_at dksX7_is_1 7 rfl rfl)
theorem dX7_is_31 : decode cX7_is 31 = .ok (.aload_n 1, 1) := dk_43 (dk_at dksX7_is_1 8 rfl rfl)
theorem dX7_is_32 : decode cX7_is 32 = .ok (.invokevirtual 86, 3) := dk_182 0 86 (dk_at dksX7_is_1 9 rfl rfl)
theorem dX7_is_35 : decode cX7_is 35 = .ok (.if_icmp .ge 33, 3) := dk_162 0 33 (dk_at dksX7_is_1 12 rfl rfl)
theorem dX7_is_38 : decode cX7_is 38 = .ok (.aload_n 0, 1) := dk_42 (dk_at dksX7_is_1 15 rfl rfl)
theorem dX7_is_39 : decode cX7_is 39 = .ok (.getfield 3, 3) := dk_180 0 3 (dk_at dksX7_is_1 16 rfl rfl)
theorem dX7_is_42 : decode cX7_is 42 = .ok (.getfield 44, 3) := dk_180 0 44 (dk_at dksX7_is_1 19 rfl rfl)
theorem dX7_is_45 : decode cX7_is 45 = .ok (.aload_n 0, 1) := dk_42 (dk_at dksX7_is_1 22 rfl rfl)
theorem dX7_is_46 : decode cX7_is 46 = .ok (.getfield 52, 3) := dk_180 0 52 (dk_at dksX7_is_2 0 rfl rfl)
theorem dX7_is_49 : decode cX7_is 49 = .ok (.iload_n 2, 1) := dk_28 (dk_at dksX7_is_2 3 rfl rfl)
theorem dX7_is_50 : decode cX7_is 50 = .ok (.iadd, 1) := dk_96 (dk_at dksX7_is_2 4 rfl rfl)
theorem dX7_is_51 : decode cX7_is 51 = .ok (.baload, 1) := dk_51 (dk_at dksX7_is_2 5 rfl rfl)
theorem dX7_is_52 : decode cX7_is 52 = .ok (.aload_n 1, 1) := dk_43 (dk_at dksX7_is_2 6 rfl rfl)
theorem dX7_is_53 : decode cX7_is 53 = .ok (.iload_n 2, 1) := dk_28 (dk_at dksX7_is_2 7 rfl rfl)
theorem dX7_is_54 : decode cX7_is 54 = .ok (.invokevirtual 92, 3) := dk_182 0 92 (dk_at dksX7_is_2 8 rfl rfl)
theorem dX7_is_57 : decode cX7_is 57 = .ok (.if_icmp .eq 5, 3) := dk_159 0 5 (dk_at dksX7_is_2 11 rfl rfl)
theorem dX7_is_60 : decode cX7_is 60 = .ok (.iconst 0, 1) := dk_3 (dk_at dksX7_is_2 14 rfl rfl)
theorem dX7_is_61 : decode cX7_is 61 = .ok (.ireturn, 1) := dk_172 (dk_at dksX7_is_2 15 rfl rfl)
theorem dX7_is_62 : decode cX7_is 62 = .ok (.iinc 2 1, 3) := dk_132 2 1 (dk_at dksX7_is_2 16 rfl rfl)
theorem dX7_is_65 : decode cX7_is 65 = .ok (.goto (-35), 3) := dk_167 255 221 (dk_at dksX7_is_2 19 rfl rfl)
theorem dX7_is_68 : decode cX7_is 68 = .ok (.iconst 1, 1) := dk_4 (dk_at dksX7_is_2 22 rfl rfl)
theorem dX7_is_69 : decode cX7_is 69 = .ok (.ireturn, 1) := dk_172 (dk_at dksX7_is_2 23 rfl rfl)
abbrev cX7_wrong : ByteArray := prog_14_method_4_code
def yX7_wrong : MethodName := ⟨RX7, "wrong", "(I)LLockRail$Fault;"⟩
def dkwX7_wrong_0 : List UInt8 := [187, 0, 81, 89, 27, 42, 180, 0, 52, 183, 0, 83, 176]
abbrev dktX7_wrong_0 : List UInt8 := dkwX7_wrong_0 ++ []
theorem dksX7_wrong_0 : cX7_wrong.data.toList.drop 0 = dktX7_wrong_0 := by decide +kernel
theorem dX7_wrong_0 : decode cX7_wrong 0 = .ok (.new 81, 3) := dk_187 0 81 (dk_at dksX7_wrong_0 0 rfl rfl)
theorem dX7_wrong_3 : decode cX7_wrong 3 = .ok (.dup, 1) := dk_89 (dk_at dksX7_wrong_0 3 rfl rfl)
theorem dX7_wrong_4 : decode cX7_wrong 4 = .ok (.iload_n 1, 1) := dk_27 (dk_at dksX7_wrong_0 4 rfl rfl)
theorem dX7_wrong_5 : decode cX7_wrong 5 = .ok (.aload_n 0, 1) := dk_42 (dk_at dksX7_wrong_0 5 rfl rfl)
theorem dX7_wrong_6 : decode cX7_wrong 6 = .ok (.getfield 52, 3) := dk_180 0 52 (dk_at dksX7_wrong_0 6 rfl rfl)
theorem dX7_wrong_9 : decode cX7_wrong 9 = .ok (.invokespecial 83, 3) := dk_183 0 83 (dk_at dksX7_wrong_0 9 rfl rfl)
theorem dX7_wrong_12 : decode cX7_wrong 12 = .ok (.areturn, 1) := dk_176 (dk_at dksX7_wrong_0 12 rfl rfl)
abbrev cX7_told : ByteArray := prog_14_method_9_code
def yX7_told : MethodName := ⟨RX7, "told", "(Ljava/lang/String;II)I"⟩
def dkwX7_told_0 : List UInt8 := [42, 43, 182, 0, 107, 42, 28, 29, 182, 0, 111, 172]
abbrev dktX7_told_0 : List UInt8 := dkwX7_told_0 ++ []
theorem dksX7_told_0 : cX7_told.data.toList.drop 0 = dktX7_told_0 := by decide +kernel
theorem dX7_told_0 : decode cX7_told 0 = .ok (.aload_n 0, 1) := dk_42 (dk_at dksX7_told_0 0 rfl rfl)
theorem dX7_told_1 : decode cX7_told 1 = .ok (.aload_n 1, 1) := dk_43 (dk_at dksX7_told_0 1 rfl rfl)
theorem dX7_told_2 : decode cX7_told 2 = .ok (.invokevirtual 107, 3) := dk_182 0 107 (dk_at dksX7_told_0 2 rfl rfl)
theorem dX7_told_5 : decode cX7_told 5 = .ok (.aload_n 0, 1) := dk_42 (dk_at dksX7_told_0 5 rfl rfl)
theorem dX7_told_6 : decode cX7_told 6 = .ok (.iload_n 2, 1) := dk_28 (dk_at dksX7_told_0 6 rfl rfl)
theorem dX7_told_7 : decode cX7_told 7 = .ok (.iload_n 3, 1) := dk_29 (dk_at dksX7_told_0 7 rfl rfl)
theorem dX7_told_8 : decode cX7_told 8 = .ok (.invokevirtual 111, 3) := dk_182 0 111 (dk_at dksX7_told_0 8 rfl rfl)
theorem dX7_told_11 : decode cX7_told 11 = .ok (.ireturn, 1) := dk_172 (dk_at dksX7_told_0 11 rfl rfl)
abbrev cX7_number : ByteArray := prog_14_method_8_code
def yX7_number : MethodName := ⟨RX7, "number", "(II)I"⟩
def dkwX7_number_1 : List UInt8 := [133, 184, 0, 48, 154, 0, 9, 42, 5, 182, 0, 103, 191, 42, 180, 0, 62, 62, 42, 182, 0, 38, 29, 172]
abbrev dktX7_number_1 : List UInt8 := dkwX7_number_1 ++ []
def dkwX7_number_0 : List UInt8 := [42, 180, 0, 35, 178, 0, 72, 165, 0, 9, 42, 4, 182, 0, 103, 191, 42, 180, 0, 62, 133, 27, 133, 28]
abbrev dktX7_number_0 : List UInt8 := dkwX7_number_0 ++ dktX7_number_1
theorem dksX7_number_0 : cX7_number.data.toList.drop 0 = dktX7_number_0 := by decide +kernel
theorem dksX7_number_1 : cX7_number.data.toList.drop 24 = dktX7_number_1 := dk_seg dksX7_number_0 24 rfl rfl
theorem dX7_number_0 : decode cX7_number 0 = .ok (.aload_n 0, 1) := dk_42 (dk_at dksX7_number_0 0 rfl rfl)
theorem dX7_number_1 : decode cX7_number 1 = .ok (.getfield 35, 3) := dk_180 0 35 (dk_at dksX7_number_0 1 rfl rfl)
theorem dX7_number_4 : decode cX7_number 4 = .ok (.getstatic 72, 3) := dk_178 0 72 (dk_at dksX7_number_0 4 rfl rfl)
theorem dX7_number_7 : decode cX7_number 7 = .ok (.if_acmp .eq 9, 3) := dk_165 0 9 (dk_at dksX7_number_0 7 rfl rfl)
theorem dX7_number_10 : decode cX7_number 10 = .ok (.aload_n 0, 1) := dk_42 (dk_at dksX7_number_0 10 rfl rfl)
theorem dX7_number_11 : decode cX7_number 11 = .ok (.iconst 1, 1) := dk_4 (dk_at dksX7_number_0 11 rfl rfl)
theorem dX7_number_12 : decode cX7_number 12 = .ok (.invokevirtual 103, 3) := dk_182 0 103 (dk_at dksX7_number_0 12 rfl rfl)
theorem dX7_number_15 : decode cX7_number 15 = .ok (.athrow, 1) := dk_191 (dk_at dksX7_number_0 15 rfl rfl)
theorem dX7_number_16 : decode cX7_number 16 = .ok (.aload_n 0, 1) := dk_42 (dk_at dksX7_number_0 16 rfl rfl)
theorem dX7_number_17 : decode cX7_number 17 = .ok (.getfield 62, 3) := dk_180 0 62 (dk_at dksX7_number_0 17 rfl rfl)
theorem dX7_number_20 : decode cX7_number 20 = .ok (.i2l, 1) := dk_133 (dk_at dksX7_number_0 20 rfl rfl)
theorem dX7_number_21 : decode cX7_number 21 = .ok (.iload_n 1, 1) := dk_27 (dk_at dksX7_number_0 21 rfl rfl)
theorem dX7_number_22 : decode cX7_number 22 = .ok (.i2l, 1) := dk_133 (dk_at dksX7_number_0 22 rfl rfl)
theorem dX7_number_23 : decode cX7_number 23 = .ok (.iload_n 2, 1) := dk_28 (dk_at dksX7_number_0 23 rfl rfl)
theorem dX7_number_24 : decode cX7_number 24 = .ok (.i2l, 1) := dk_133 (dk_at dksX7_number_1 0 rfl rfl)
theorem dX7_number_25 : decode cX7_number 25 = .ok (.invokestatic 48, 3) := dk_184 0 48 (dk_at dksX7_number_1 1 rfl rfl)
theorem dX7_number_28 : decode cX7_number 28 = .ok (.ifCond .ne 9, 3) := dk_154 0 9 (dk_at dksX7_number_1 4 rfl rfl)
theorem dX7_number_31 : decode cX7_number 31 = .ok (.aload_n 0, 1) := dk_42 (dk_at dksX7_number_1 7 rfl rfl)
theorem dX7_number_32 : decode cX7_number 32 = .ok (.iconst 2, 1) := dk_5 (dk_at dksX7_number_1 8 rfl rfl)
theorem dX7_number_33 : decode cX7_number 33 = .ok (.invokevirtual 103, 3) := dk_182 0 103 (dk_at dksX7_number_1 9 rfl rfl)
theorem dX7_number_36 : decode cX7_number 36 = .ok (.athrow, 1) := dk_191 (dk_at dksX7_number_1 12 rfl rfl)
theorem dX7_number_37 : decode cX7_number 37 = .ok (.aload_n 0, 1) := dk_42 (dk_at dksX7_number_1 13 rfl rfl)
theorem dX7_number_38 : decode cX7_number 38 = .ok (.getfield 62, 3) := dk_180 0 62 (dk_at dksX7_number_1 14 rfl rfl)
theorem dX7_number_41 : decode cX7_number 41 = .ok (.istore_n 3, 1) := dk_62 (dk_at dksX7_number_1 17 rfl rfl)
theorem dX7_number_42 : decode cX7_number 42 = .ok (.aload_n 0, 1) := dk_42 (dk_at dksX7_number_1 18 rfl rfl)
theorem dX7_number_43 : decode cX7_number 43 = .ok (.invokevirtual 38, 3) := dk_182 0 38 (dk_at dksX7_number_1 19 rfl rfl)
theorem dX7_number_46 : decode cX7_number 46 = .ok (.iload_n 3, 1) := dk_29 (dk_at dksX7_number_1 22 rfl rfl)
theorem dX7_number_47 : decode cX7_number 47 = .ok (.ireturn, 1) := dk_172 (dk_at dksX7_number_1 23 rfl rfl)
abbrev cX7_line : ByteArray := prog_14_method_20_code
def yX7_line : MethodName := ⟨RX7, "line", "()V"⟩
def dkwX7_line_6 : List UInt8 := [180, 0, 230, 182, 1, 4, 153, 0, 10, 42, 182, 1, 12, 167, 0, 9, 42, 4, 182, 0, 103, 191, 177]
abbrev dktX7_line_6 : List UInt8 := dkwX7_line_6 ++ []
def dkwX7_line_5 : List UInt8 := [180, 0, 215, 182, 1, 4, 153, 0, 10, 42, 182, 1, 8, 167, 0, 33, 42, 19, 1, 10, 42, 180, 0, 25]
abbrev dktX7_line_5 : List UInt8 := dkwX7_line_5 ++ dktX7_line_6
def dkwX7_line_4 : List UInt8 := [16, 6, 182, 0, 243, 153, 0, 10, 42, 182, 1, 0, 167, 0, 57, 42, 19, 1, 2, 42, 180, 0, 25]
abbrev dktX7_line_4 : List UInt8 := dkwX7_line_4 ++ dktX7_line_5
def dkwX7_line_3 : List UInt8 := [153, 0, 10, 42, 182, 0, 252, 167, 0, 85, 42, 18, 254, 42, 180, 0, 25, 180, 0, 194, 182, 0, 173]
abbrev dktX7_line_3 : List UInt8 := dkwX7_line_3 ++ dktX7_line_4
def dkwX7_line_2 : List UInt8 := [182, 0, 248, 167, 0, 113, 42, 18, 250, 42, 180, 0, 25, 180, 0, 183, 182, 0, 173, 16, 10, 182, 0, 243]
abbrev dktX7_line_2 : List UInt8 := dkwX7_line_2 ++ dktX7_line_3
def dkwX7_line_1 : List UInt8 := [167, 0, 140, 42, 18, 171, 42, 180, 0, 25, 180, 0, 150, 182, 0, 173, 8, 182, 0, 243, 153, 0, 10, 42]
abbrev dktX7_line_1 : List UInt8 := dkwX7_line_1 ++ dktX7_line_2
def dkwX7_line_0 : List UInt8 := [42, 18, 241, 42, 180, 0, 25, 180, 0, 131, 182, 0, 173, 7, 182, 0, 243, 153, 0, 10, 42, 182, 0, 246]
abbrev dktX7_line_0 : List UInt8 := dkwX7_line_0 ++ dktX7_line_1
theorem dksX7_line_0 : cX7_line.data.toList.drop 0 = dktX7_line_0 := by decide +kernel
theorem dksX7_line_1 : cX7_line.data.toList.drop 24 = dktX7_line_1 := dk_seg dksX7_line_0 24 rfl rfl
theorem dksX7_line_2 : cX7_line.data.toList.drop 48 = dktX7_line_2 := dk_seg dksX7_line_1 24 rfl rfl
theorem dksX7_line_3 : cX7_line.data.toList.drop 72 = dktX7_line_3 := dk_seg dksX7_line_2 24 rfl rfl
theorem dksX7_line_4 : cX7_line.data.toList.drop 95 = dktX7_line_4 := dk_seg dksX7_line_3 23 rfl rfl
theorem dksX7_line_5 : cX7_line.data.toList.drop 118 = dktX7_line_5 := dk_seg dksX7_line_4 23 rfl rfl
theorem dksX7_line_6 : cX7_line.data.toList.drop 142 = dktX7_line_6 := dk_seg dksX7_line_5 24 rfl rfl
theorem dX7_line_0 : decode cX7_line 0 = .ok (.aload_n 0, 1) := dk_42 (dk_at dksX7_line_0 0 rfl rfl)
theorem dX7_line_1 : decode cX7_line 1 = .ok (.ldc 241, 2) := dk_18 241 (dk_at dksX7_line_0 1 rfl rfl)
theorem dX7_line_3 : decode cX7_line 3 = .ok (.aload_n 0, 1) := dk_42 (dk_at dksX7_line_0 3 rfl rfl)
theorem dX7_line_4 : decode cX7_line 4 = .ok (.getfield 25, 3) := dk_180 0 25 (dk_at dksX7_line_0 4 rfl rfl)
theorem dX7_line_7 : decode cX7_line 7 = .ok (.getfield 131, 3) := dk_180 0 131 (dk_at dksX7_line_0 7 rfl rfl)
theorem dX7_line_10 : decode cX7_line 10 = .ok (.invokevirtual 173, 3) := dk_182 0 173 (dk_at dksX7_line_0 10 rfl rfl)
theorem dX7_line_13 : decode cX7_line 13 = .ok (.iconst 4, 1) := dk_7 (dk_at dksX7_line_0 13 rfl rfl)
theorem dX7_line_14 : decode cX7_line 14 = .ok (.invokevirtual 243, 3) := dk_182 0 243 (dk_at dksX7_line_0 14 rfl rfl)
theorem dX7_line_17 : decode cX7_line 17 = .ok (.ifCond .eq 10, 3) := dk_153 0 10 (dk_at dksX7_line_0 17 rfl rfl)
theorem dX7_line_20 : decode cX7_line 20 = .ok (.aload_n 0, 1) := dk_42 (dk_at dksX7_line_0 20 rfl rfl)
theorem dX7_line_21 : decode cX7_line 21 = .ok (.invokevirtual 246, 3) := dk_182 0 246 (dk_at dksX7_line_0 21 rfl rfl)
theorem dX7_line_24 : decode cX7_line 24 = .ok (.goto 140, 3) := dk_167 0 140 (dk_at dksX7_line_1 0 rfl rfl)
theorem dX7_line_27 : decode cX7_line 27 = .ok (.aload_n 0, 1) := dk_42 (dk_at dksX7_line_1 3 rfl rfl)
theorem dX7_line_28 : decode cX7_line 28 = .ok (.ldc 171, 2) := dk_18 171 (dk_at dksX7_line_1 4 rfl rfl)
theorem dX7_line_30 : decode cX7_line 30 = .ok (.aload_n 0, 1) := dk_42 (dk_at dksX7_line_1 6 rfl rfl)
theorem dX7_line_31 : decode cX7_line 31 = .ok (.getfield 25, 3) := dk_180 0 25 (dk_at dksX7_line_1 7 rfl rfl)
theorem dX7_line_34 : decode cX7_line 34 = .ok (.getfield 150, 3) := dk_180 0 150 (dk_at dksX7_line_1 10 rfl rfl)
theorem dX7_line_37 : decode cX7_line 37 = .ok (.invokevirtual 173, 3) := dk_182 0 173 (dk_at dksX7_line_1 13 rfl rfl)
theorem dX7_line_40 : decode cX7_line 40 = .ok (.iconst 5, 1) := dk_8 (dk_at dksX7_line_1 16 rfl rfl)
theorem dX7_line_41 : decode cX7_line 41 = .ok (.invokevirtual 243, 3) := dk_182 0 243 (dk_at dksX7_line_1 17 rfl rfl)
theorem dX7_line_44 : decode cX7_line 44 = .ok (.ifCond .eq 10, 3) := dk_153 0 10 (dk_at dksX7_line_1 20 rfl rfl)
theorem dX7_line_47 : decode cX7_line 47 = .ok (.aload_n 0, 1) := dk_42 (dk_at dksX7_line_1 23 rfl rfl)
theorem dX7_line_48 : decode cX7_line 48 = .ok (.invokevirtual 248, 3) := dk_182 0 248 (dk_at dksX7_line_2 0 rfl rfl)
theorem dX7_line_51 : decode cX7_line 51 = .ok (.goto 113, 3) := dk_167 0 113 (dk_at dksX7_line_2 3 rfl rfl)
theorem dX7_line_54 : decode cX7_line 54 = .ok (.aload_n 0, 1) := dk_42 (dk_at dksX7_line_2 6 rfl rfl)
theorem dX7_line_55 : decode cX7_line 55 = .ok (.ldc 250, 2) := dk_18 250 (dk_at dksX7_line_2 7 rfl rfl)
theorem dX7_line_57 : decode cX7_line 57 = .ok (.aload_n 0, 1) := dk_42 (dk_at dksX7_line_2 9 rfl rfl)
theorem dX7_line_58 : decode cX7_line 58 = .ok (.getfield 25, 3) := dk_180 0 25 (dk_at dksX7_line_2 10 rfl rfl)
theorem dX7_line_61 : decode cX7_line 61 = .ok (.getfield 183, 3) := dk_180 0 183 (dk_at dksX7_line_2 13 rfl rfl)
theorem dX7_line_64 : decode cX7_line 64 = .ok (.invokevirtual 173, 3) := dk_182 0 173 (dk_at dksX7_line_2 16 rfl rfl)
theorem dX7_line_67 : decode cX7_line 67 = .ok (.bipush 10, 2) := dk_16 10 (dk_at dksX7_line_2 19 rfl rfl)
theorem dX7_line_69 : decode cX7_line 69 = .ok (.invokevirtual 243, 3) := dk_182 0 243 (dk_at dksX7_line_2 21 rfl rfl)
theorem dX7_line_72 : decode cX7_line 72 = .ok (.ifCond .eq 10, 3) := dk_153 0 10 (dk_at dksX7_line_3 0 rfl rfl)
theorem dX7_line_75 : decode cX7_line 75 = .ok (.aload_n 0, 1) := dk_42 (dk_at dksX7_line_3 3 rfl rfl)
theorem dX7_line_76 : decode cX7_line 76 = .ok (.invokevirtual 252, 3) := dk_182 0 252 (dk_at dksX7_line_3 4 rfl rfl)
theorem dX7_line_79 : decode cX7_line 79 = .ok (.goto 85, 3) := dk_167 0 85 (dk_at dksX7_line_3 7 rfl rfl)
theorem dX7_line_82 : decode cX7_line 82 = .ok (.aload_n 0, 1) := dk_42 (dk_at dksX7_line_3 10 rfl rfl)
theorem dX7_line_83 : decode cX7_line 83 = .ok (.ldc 254, 2) := dk_18 254 (dk_at dksX7_line_3 11 rfl rfl)
theorem dX7_line_85 : decode cX7_line 85 = .ok (.aload_n 0, 1) := dk_42 (dk_at dksX7_line_3 13 rfl rfl)
theorem dX7_line_86 : decode cX7_line 86 = .ok (.getfield 25, 3) := dk_180 0 25 (dk_at dksX7_line_3 14 rfl rfl)
theorem dX7_line_89 : decode cX7_line 89 = .ok (.getfield 194, 3) := dk_180 0 194 (dk_at dksX7_line_3 17 rfl rfl)
theorem dX7_line_92 : decode cX7_line 92 = .ok (.invokevirtual 173, 3) := dk_182 0 173 (dk_at dksX7_line_3 20 rfl rfl)
theorem dX7_line_95 : decode cX7_line 95 = .ok (.bipush 6, 2) := dk_16 6 (dk_at dksX7_line_4 0 rfl rfl)
theorem dX7_line_97 : decode cX7_line 97 = .ok (.invokevirtual 243, 3) := dk_182 0 243 (dk_at dksX7_line_4 2 rfl rfl)
theorem dX7_line_100 : decode cX7_line 100 = .ok (.ifCond .eq 10, 3) := dk_153 0 10 (dk_at dksX7_line_4 5 rfl rfl)
theorem dX7_line_103 : decode cX7_line 103 = .ok (.aload_n 0, 1) := dk_42 (dk_at dksX7_line_4 8 rfl rfl)
theorem dX7_line_104 : decode cX7_line 104 = .ok (.invokevirtual 256, 3) := dk_182 1 0 (dk_at dksX7_line_4 9 rfl rfl)
theorem dX7_line_107 : decode cX7_line 107 = .ok (.goto 57, 3) := dk_167 0 57 (dk_at dksX7_line_4 12 rfl rfl)
theorem dX7_line_110 : decode cX7_line 110 = .ok (.aload_n 0, 1) := dk_42 (dk_at dksX7_line_4 15 rfl rfl)
theorem dX7_line_111 : decode cX7_line 111 = .ok (.ldc_w 258, 3) := dk_19 1 2 (dk_at dksX7_line_4 16 rfl rfl)
theorem dX7_line_114 : decode cX7_line 114 = .ok (.aload_n 0, 1) := dk_42 (dk_at dksX7_line_4 19 rfl rfl)
theorem dX7_line_115 : decode cX7_line 115 = .ok (.getfield 25, 3) := dk_180 0 25 (dk_at dksX7_line_4 20 rfl rfl)
theorem dX7_line_118 : decode cX7_line 118 = .ok (.getfield 215, 3) := dk_180 0 215 (dk_at dksX7_line_5 0 rfl rfl)
theorem dX7_line_121 : decode cX7_line 121 = .ok (.invokevirtual 260, 3) := dk_182 1 4 (dk_at dksX7_line_5 3 rfl rfl)
theorem dX7_line_124 : decode cX7_line 124 = .ok (.ifCond .eq 10, 3) := dk_153 0 10 (dk_at dksX7_line_5 6 rfl rfl)
theorem dX7_line_127 : decode cX7_line 127 = .ok (.aload_n 0, 1) := dk_42 (dk_at dksX7_line_5 9 rfl rfl)
theorem dX7_line_128 : decode cX7_line 128 = .ok (.invokevirtual 264, 3) := dk_182 1 8 (dk_at dksX7_line_5 10 rfl rfl)
theorem dX7_line_131 : decode cX7_line 131 = .ok (.goto 33, 3) := dk_167 0 33 (dk_at dksX7_line_5 13 rfl rfl)
theorem dX7_line_134 : decode cX7_line 134 = .ok (.aload_n 0, 1) := dk_42 (dk_at dksX7_line_5 16 rfl rfl)
theorem dX7_line_135 : decode cX7_line 135 = .ok (.ldc_w 266, 3) := dk_19 1 10 (dk_at dksX7_line_5 17 rfl rfl)
theorem dX7_line_138 : decode cX7_line 138 = .ok (.aload_n 0, 1) := dk_42 (dk_at dksX7_line_5 20 rfl rfl)
theorem dX7_line_139 : decode cX7_line 139 = .ok (.getfield 25, 3) := dk_180 0 25 (dk_at dksX7_line_5 21 rfl rfl)
theorem dX7_line_142 : decode cX7_line 142 = .ok (.getfield 230, 3) := dk_180 0 230 (dk_at dksX7_line_6 0 rfl rfl)
theorem dX7_line_145 : decode cX7_line 145 = .ok (.invokevirtual 260, 3) := dk_182 1 4 (dk_at dksX7_line_6 3 rfl rfl)
theorem dX7_line_148 : decode cX7_line 148 = .ok (.ifCond .eq 10, 3) := dk_153 0 10 (dk_at dksX7_line_6 6 rfl rfl)
theorem dX7_line_151 : decode cX7_line 151 = .ok (.aload_n 0, 1) := dk_42 (dk_at dksX7_line_6 9 rfl rfl)
theorem dX7_line_152 : decode cX7_line 152 = .ok (.invokevirtual 268, 3) := dk_182 1 12 (dk_at dksX7_line_6 10 rfl rfl)
theorem dX7_line_155 : decode cX7_line 155 = .ok (.goto 9, 3) := dk_167 0 9 (dk_at dksX7_line_6 13 rfl rfl)
theorem dX7_line_158 : decode cX7_line 158 = .ok (.aload_n 0, 1) := dk_42 (dk_at dksX7_line_6 16 rfl rfl)
theorem dX7_line_159 : decode cX7_line 159 = .ok (.iconst 1, 1) := dk_4 (dk_at dksX7_line_6 17 rfl rfl)
theorem dX7_line_160 : decode cX7_line 160 = .ok (.invokevirtual 103, 3) := dk_182 0 103 (dk_at dksX7_line_6 18 rfl rfl)
theorem dX7_line_163 : decode cX7_line 163 = .ok (.athrow, 1) := dk_191 (dk_at dksX7_line_6 21 rfl rfl)
theorem dX7_line_164 : decode cX7_line 164 = .ok (.return_, 1) := dk_177 (dk_at dksX7_line_6 22 rfl rfl)
abbrev cX7_takes_2 : ByteArray := prog_14_method_18_code
def yX7_takes_2 : MethodName := ⟨RX7, "takes", "(Ljava/lang/String;II)Z"⟩
def dkwX7_takes_2_1 : List UInt8 := [172]
abbrev dktX7_takes_2_1 : List UInt8 := dkwX7_takes_2_1 ++ []
def dkwX7_takes_2_0 : List UInt8 := [42, 43, 182, 0, 96, 153, 0, 14, 28, 29, 160, 0, 9, 42, 6, 182, 0, 103, 191, 42, 43, 182, 0, 100]
abbrev dktX7_takes_2_0 : List UInt8 := dkwX7_takes_2_0 ++ dktX7_takes_2_1
theorem dksX7_takes_2_0 : cX7_takes_2.data.toList.drop 0 = dktX7_takes_2_0 := by decide +kernel
theorem dksX7_takes_2_1 : cX7_takes_2.data.toList.drop 24 = dktX7_takes_2_1 := dk_seg dksX7_takes_2_0 24 rfl rfl
theorem dX7_takes_2_0 : decode cX7_takes_2 0 = .ok (.aload_n 0, 1) := dk_42 (dk_at dksX7_takes_2_0 0 rfl rfl)
theorem dX7_takes_2_1 : decode cX7_takes_2 1 = .ok (.aload_n 1, 1) := dk_43 (dk_at dksX7_takes_2_0 1 rfl rfl)
theorem dX7_takes_2_2 : decode cX7_takes_2 2 = .ok (.invokevirtual 96, 3) := dk_182 0 96 (dk_at dksX7_takes_2_0 2 rfl rfl)
theorem dX7_takes_2_5 : decode cX7_takes_2 5 = .ok (.ifCond .eq 14, 3) := dk_153 0 14 (dk_at dksX7_takes_2_0 5 rfl rfl)
theorem dX7_takes_2_8 : decode cX7_takes_2 8 = .ok (.iload_n 2, 1) := dk_28 (dk_at dksX7_takes_2_0 8 rfl rfl)
theorem dX7_takes_2_9 : decode cX7_takes_2 9 = .ok (.iload_n 3, 1) := dk_29 (dk_at dksX7_takes_2_0 9 rfl rfl)
theorem dX7_takes_2_10 : decode cX7_takes_2 10 = .ok (.if_icmp .ne 9, 3) := dk_160 0 9 (dk_at dksX7_takes_2_0 10 rfl rfl)
theorem dX7_takes_2_13 : decode cX7_takes_2 13 = .ok (.aload_n 0, 1) := dk_42 (dk_at dksX7_takes_2_0 13 rfl rfl)
theorem dX7_takes_2_14 : decode cX7_takes_2 14 = .ok (.iconst 3, 1) := dk_6 (dk_at dksX7_takes_2_0 14 rfl rfl)
theorem dX7_takes_2_15 : decode cX7_takes_2 15 = .ok (.invokevirtual 103, 3) := dk_182 0 103 (dk_at dksX7_takes_2_0 15 rfl rfl)
theorem dX7_takes_2_18 : decode cX7_takes_2 18 = .ok (.athrow, 1) := dk_191 (dk_at dksX7_takes_2_0 18 rfl rfl)
theorem dX7_takes_2_19 : decode cX7_takes_2 19 = .ok (.aload_n 0, 1) := dk_42 (dk_at dksX7_takes_2_0 19 rfl rfl)
theorem dX7_takes_2_20 : decode cX7_takes_2 20 = .ok (.aload_n 1, 1) := dk_43 (dk_at dksX7_takes_2_0 20 rfl rfl)
theorem dX7_takes_2_21 : decode cX7_takes_2 21 = .ok (.invokevirtual 100, 3) := dk_182 0 100 (dk_at dksX7_takes_2_0 21 rfl rfl)
theorem dX7_takes_2_24 : decode cX7_takes_2 24 = .ok (.ireturn, 1) := dk_172 (dk_at dksX7_takes_2_1 0 rfl rfl)
abbrev cX7_lamp : ByteArray := prog_14_method_12_code
def yX7_lamp : MethodName := ⟨RX7, "lamp", "()V"⟩
def dkwX7_lamp_1 : List UInt8 := [182, 0, 118, 183, 0, 139, 182, 0, 140, 87, 177]
abbrev dktX7_lamp_1 : List UInt8 := dkwX7_lamp_1 ++ []
def dkwX7_lamp_0 : List UInt8 := [42, 182, 0, 128, 60, 42, 180, 0, 25, 180, 0, 131, 187, 0, 135, 89, 27, 42, 18, 137, 3, 16, 99]
abbrev dktX7_lamp_0 : List UInt8 := dkwX7_lamp_0 ++ dktX7_lamp_1
theorem dksX7_lamp_0 : cX7_lamp.data.toList.drop 0 = dktX7_lamp_0 := by decide +kernel
theorem dksX7_lamp_1 : cX7_lamp.data.toList.drop 23 = dktX7_lamp_1 := dk_seg dksX7_lamp_0 23 rfl rfl
theorem dX7_lamp_0 : decode cX7_lamp 0 = .ok (.aload_n 0, 1) := dk_42 (dk_at dksX7_lamp_0 0 rfl rfl)
theorem dX7_lamp_1 : decode cX7_lamp 1 = .ok (.invokevirtual 128, 3) := dk_182 0 128 (dk_at dksX7_lamp_0 1 rfl rfl)
theorem dX7_lamp_4 : decode cX7_lamp 4 = .ok (.istore_n 1, 1) := dk_60 (dk_at dksX7_lamp_0 4 rfl rfl)
theorem dX7_lamp_5 : decode cX7_lamp 5 = .ok (.aload_n 0, 1) := dk_42 (dk_at dksX7_lamp_0 5 rfl rfl)
theorem dX7_lamp_6 : decode cX7_lamp 6 = .ok (.getfield 25, 3) := dk_180 0 25 (dk_at dksX7_lamp_0 6 rfl rfl)
theorem dX7_lamp_9 : decode cX7_lamp 9 = .ok (.getfield 131, 3) := dk_180 0 131 (dk_at dksX7_lamp_0 9 rfl rfl)
theorem dX7_lamp_12 : decode cX7_lamp 12 = .ok (.new 135, 3) := dk_187 0 135 (dk_at dksX7_lamp_0 12 rfl rfl)
theorem dX7_lamp_15 : decode cX7_lamp 15 = .ok (.dup, 1) := dk_89 (dk_at dksX7_lamp_0 15 rfl rfl)
theorem dX7_lamp_16 : decode cX7_lamp 16 = .ok (.iload_n 1, 1) := dk_27 (dk_at dksX7_lamp_0 16 rfl rfl)
theorem dX7_lamp_17 : decode cX7_lamp 17 = .ok (.aload_n 0, 1) := dk_42 (dk_at dksX7_lamp_0 17 rfl rfl)
theorem dX7_lamp_18 : decode cX7_lamp 18 = .ok (.ldc 137, 2) := dk_18 137 (dk_at dksX7_lamp_0 18 rfl rfl)
theorem dX7_lamp_20 : decode cX7_lamp 20 = .ok (.iconst 0, 1) := dk_3 (dk_at dksX7_lamp_0 20 rfl rfl)
theorem dX7_lamp_21 : decode cX7_lamp 21 = .ok (.bipush 99, 2) := dk_16 99 (dk_at dksX7_lamp_0 21 rfl rfl)
theorem dX7_lamp_23 : decode cX7_lamp 23 = .ok (.invokevirtual 118, 3) := dk_182 0 118 (dk_at dksX7_lamp_1 0 rfl rfl)
theorem dX7_lamp_26 : decode cX7_lamp 26 = .ok (.invokespecial 139, 3) := dk_183 0 139 (dk_at dksX7_lamp_1 3 rfl rfl)
theorem dX7_lamp_29 : decode cX7_lamp 29 = .ok (.invokevirtual 140, 3) := dk_182 0 140 (dk_at dksX7_lamp_1 6 rfl rfl)
theorem dX7_lamp_32 : decode cX7_lamp 32 = .ok (.pop, 1) := dk_87 (dk_at dksX7_lamp_1 9 rfl rfl)
theorem dX7_lamp_33 : decode cX7_lamp 33 = .ok (.return_, 1) := dk_177 (dk_at dksX7_lamp_1 10 rfl rfl)
abbrev cX7_place : ByteArray := prog_14_method_10_code
def yX7_place : MethodName := ⟨RX7, "place", "()I"⟩
def dkwX7_place_0 : List UInt8 := [42, 18, 114, 3, 42, 180, 0, 25, 180, 0, 115, 4, 100, 182, 0, 118, 172]
abbrev dktX7_place_0 : List UInt8 := dkwX7_place_0 ++ []
theorem dksX7_place_0 : cX7_place.data.toList.drop 0 = dktX7_place_0 := by decide +kernel
theorem dX7_place_0 : decode cX7_place 0 = .ok (.aload_n 0, 1) := dk_42 (dk_at dksX7_place_0 0 rfl rfl)
theorem dX7_place_1 : decode cX7_place 1 = .ok (.ldc 114, 2) := dk_18 114 (dk_at dksX7_place_0 1 rfl rfl)
theorem dX7_place_3 : decode cX7_place 3 = .ok (.iconst 0, 1) := dk_3 (dk_at dksX7_place_0 3 rfl rfl)
theorem dX7_place_4 : decode cX7_place 4 = .ok (.aload_n 0, 1) := dk_42 (dk_at dksX7_place_0 4 rfl rfl)
theorem dX7_place_5 : decode cX7_place 5 = .ok (.getfield 25, 3) := dk_180 0 25 (dk_at dksX7_place_0 5 rfl rfl)
theorem dX7_place_8 : decode cX7_place 8 = .ok (.getfield 115, 3) := dk_180 0 115 (dk_at dksX7_place_0 8 rfl rfl)
theorem dX7_place_11 : decode cX7_place 11 = .ok (.iconst 1, 1) := dk_4 (dk_at dksX7_place_0 11 rfl rfl)
theorem dX7_place_12 : decode cX7_place 12 = .ok (.isub, 1) := dk_100 (dk_at dksX7_place_0 12 rfl rfl)
theorem dX7_place_13 : decode cX7_place 13 = .ok (.invokevirtual 118, 3) := dk_182 0 118 (dk_at dksX7_place_0 13 rfl rfl)
theorem dX7_place_16 : decode cX7_place 16 = .ok (.ireturn, 1) := dk_172 (dk_at dksX7_place_0 16 rfl rfl)
abbrev cX7_lock : ByteArray := prog_14_method_13_code
def yX7_lock : MethodName := ⟨RX7, "lock", "()V"⟩
def dkwX7_lock_2 : List UInt8 := [180, 0, 25, 180, 0, 150, 187, 0, 153, 89, 27, 44, 183, 0, 155, 182, 0, 140, 87, 177]
abbrev dktX7_lock_2 : List UInt8 := dkwX7_lock_2 ++ []
def dkwX7_lock_1 : List UInt8 := [6, 162, 0, 20, 44, 29, 42, 4, 17, 3, 231, 182, 0, 111, 79, 132, 3, 1, 167, 255, 237, 42]
abbrev dktX7_lock_1 : List UInt8 := dkwX7_lock_1 ++ dktX7_lock_2
def dkwX7_lock_0 : List UInt8 := [42, 18, 146, 3, 17, 3, 231, 182, 0, 118, 60, 42, 18, 148, 182, 0, 107, 6, 188, 10, 77, 3, 62, 29]
abbrev dktX7_lock_0 : List UInt8 := dkwX7_lock_0 ++ dktX7_lock_1
theorem dksX7_lock_0 : cX7_lock.data.toList.drop 0 = dktX7_lock_0 := by decide +kernel
theorem dksX7_lock_1 : cX7_lock.data.toList.drop 24 = dktX7_lock_1 := dk_seg dksX7_lock_0 24 rfl rfl
theorem dksX7_lock_2 : cX7_lock.data.toList.drop 46 = dktX7_lock_2 := dk_seg dksX7_lock_1 22 rfl rfl
theorem dX7_lock_0 : decode cX7_lock 0 = .ok (.aload_n 0, 1) := dk_42 (dk_at dksX7_lock_0 0 rfl rfl)
theorem dX7_lock_1 : decode cX7_lock 1 = .ok (.ldc 146, 2) := dk_18 146 (dk_at dksX7_lock_0 1 rfl rfl)
theorem dX7_lock_3 : decode cX7_lock 3 = .ok (.iconst 0, 1) := dk_3 (dk_at dksX7_lock_0 3 rfl rfl)
theorem dX7_lock_4 : decode cX7_lock 4 = .ok (.sipush 999, 3) := dk_17 3 231 (dk_at dksX7_lock_0 4 rfl rfl)
theorem dX7_lock_7 : decode cX7_lock 7 = .ok (.invokevirtual 118, 3) := dk_182 0 118 (dk_at dksX7_lock_0 7 rfl rfl)
theorem dX7_lock_10 : decode cX7_lock 10 = .ok (.istore_n 1, 1) := dk_60 (dk_at dksX7_lock_0 10 rfl rfl)
theorem dX7_lock_11 : decode cX7_lock 11 = .ok (.aload_n 0, 1) := dk_42 (dk_at dksX7_lock_0 11 rfl rfl)
theorem dX7_lock_12 : decode cX7_lock 12 = .ok (.ldc 148, 2) := dk_18 148 (dk_at dksX7_lock_0 12 rfl rfl)
theorem dX7_lock_14 : decode cX7_lock 14 = .ok (.invokevirtual 107, 3) := dk_182 0 107 (dk_at dksX7_lock_0 14 rfl rfl)
theorem dX7_lock_17 : decode cX7_lock 17 = .ok (.iconst 3, 1) := dk_6 (dk_at dksX7_lock_0 17 rfl rfl)
theorem dX7_lock_18 : decode cX7_lock 18 = .ok (.newarray .int, 2) := dk_188_10 (dk_at dksX7_lock_0 18 rfl rfl)
theorem dX7_lock_20 : decode cX7_lock 20 = .ok (.astore_n 2, 1) := dk_77 (dk_at dksX7_lock_0 20 rfl rfl)
theorem dX7_lock_21 : decode cX7_lock 21 = .ok (.iconst 0, 1) := dk_3 (dk_at dksX7_lock_0 21 rfl rfl)
theorem dX7_lock_22 : decode cX7_lock 22 = .ok (.istore_n 3, 1) := dk_62 (dk_at dksX7_lock_0 22 rfl rfl)
theorem dX7_lock_23 : decode cX7_lock 23 = .ok (.iload_n 3, 1) := dk_29 (dk_at dksX7_lock_0 23 rfl rfl)
theorem dX7_lock_24 : decode cX7_lock 24 = .ok (.iconst 3, 1) := dk_6 (dk_at dksX7_lock_1 0 rfl rfl)
theorem dX7_lock_25 : decode cX7_lock 25 = .ok (.if_icmp .ge 20, 3) := dk_162 0 20 (dk_at dksX7_lock_1 1 rfl rfl)
theorem dX7_lock_28 : decode cX7_lock 28 = .ok (.aload_n 2, 1) := dk_44 (dk_at dksX7_lock_1 4 rfl rfl)
theorem dX7_lock_29 : decode cX7_lock 29 = .ok (.iload_n 3, 1) := dk_29 (dk_at dksX7_lock_1 5 rfl rfl)
theorem dX7_lock_30 : decode cX7_lock 30 = .ok (.aload_n 0, 1) := dk_42 (dk_at dksX7_lock_1 6 rfl rfl)
theorem dX7_lock_31 : decode cX7_lock 31 = .ok (.iconst 1, 1) := dk_4 (dk_at dksX7_lock_1 7 rfl rfl)
theorem dX7_lock_32 : decode cX7_lock 32 = .ok (.sipush 999, 3) := dk_17 3 231 (dk_at dksX7_lock_1 8 rfl rfl)
theorem dX7_lock_35 : decode cX7_lock 35 = .ok (.invokevirtual 111, 3) := dk_182 0 111 (dk_at dksX7_lock_1 11 rfl rfl)
theorem dX7_lock_38 : decode cX7_lock 38 = .ok (.iastore, 1) := dk_79 (dk_at dksX7_lock_1 14 rfl rfl)
theorem dX7_lock_39 : decode cX7_lock 39 = .ok (.iinc 3 1, 3) := dk_132 3 1 (dk_at dksX7_lock_1 15 rfl rfl)
theorem dX7_lock_42 : decode cX7_lock 42 = .ok (.goto (-19), 3) := dk_167 255 237 (dk_at dksX7_lock_1 18 rfl rfl)
theorem dX7_lock_45 : decode cX7_lock 45 = .ok (.aload_n 0, 1) := dk_42 (dk_at dksX7_lock_1 21 rfl rfl)
theorem dX7_lock_46 : decode cX7_lock 46 = .ok (.getfield 25, 3) := dk_180 0 25 (dk_at dksX7_lock_2 0 rfl rfl)
theorem dX7_lock_49 : decode cX7_lock 49 = .ok (.getfield 150, 3) := dk_180 0 150 (dk_at dksX7_lock_2 3 rfl rfl)
theorem dX7_lock_52 : decode cX7_lock 52 = .ok (.new 153, 3) := dk_187 0 153 (dk_at dksX7_lock_2 6 rfl rfl)
theorem dX7_lock_55 : decode cX7_lock 55 = .ok (.dup, 1) := dk_89 (dk_at dksX7_lock_2 9 rfl rfl)
theorem dX7_lock_56 : decode cX7_lock 56 = .ok (.iload_n 1, 1) := dk_27 (dk_at dksX7_lock_2 10 rfl rfl)
theorem dX7_lock_57 : decode cX7_lock 57 = .ok (.aload_n 2, 1) := dk_44 (dk_at dksX7_lock_2 11 rfl rfl)
theorem dX7_lock_58 : decode cX7_lock 58 = .ok (.invokespecial 155, 3) := dk_183 0 155 (dk_at dksX7_lock_2 12 rfl rfl)
theorem dX7_lock_61 : decode cX7_lock 61 = .ok (.invokevirtual 140, 3) := dk_182 0 140 (dk_at dksX7_lock_2 15 rfl rfl)
theorem dX7_lock_64 : decode cX7_lock 64 = .ok (.pop, 1) := dk_87 (dk_at dksX7_lock_2 18 rfl rfl)
theorem dX7_lock_65 : decode cX7_lock 65 = .ok (.return_, 1) := dk_177 (dk_at dksX7_lock_2 19 rfl rfl)
abbrev cX7_bike : ByteArray := prog_14_method_14_code
def yX7_bike : MethodName := ⟨RX7, "bike", "()V"⟩
def dkwX7_bike_5 : List UInt8 := [18, 177, 182, 0, 100, 181, 0, 179, 42, 180, 0, 25, 180, 0, 183, 45, 182, 0, 140, 87, 177]
abbrev dktX7_bike_5 : List UInt8 := dkwX7_bike_5 ++ []
def dkwX7_bike_4 : List UInt8 := [45, 42, 3, 42, 180, 0, 25, 180, 0, 150, 182, 0, 173, 4, 100, 182, 0, 111, 181, 0, 175, 45, 42]
abbrev dktX7_bike_4 : List UInt8 := dkwX7_bike_4 ++ dktX7_bike_5
def dkwX7_bike_3 : List UInt8 := [180, 0, 25, 180, 0, 115, 4, 100, 182, 0, 111, 183, 0, 168, 78, 42, 18, 171, 182, 0, 100, 153, 0, 24]
abbrev dktX7_bike_3 : List UInt8 := dkwX7_bike_3 ++ dktX7_bike_4
def dkwX7_bike_2 : List UInt8 := [182, 0, 162, 2, 159, 0, 9, 42, 5, 182, 0, 103, 191, 187, 0, 166, 89, 27, 28, 42, 3, 42]
abbrev dktX7_bike_2 : List UInt8 := dkwX7_bike_2 ++ dktX7_bike_3
def dkwX7_bike_1 : List UInt8 := [18, 114, 182, 0, 107, 42, 180, 0, 35, 178, 0, 72, 166, 0, 24, 42, 180, 0, 25, 42, 180, 0, 62]
abbrev dktX7_bike_1 : List UInt8 := dkwX7_bike_1 ++ dktX7_bike_2
def dkwX7_bike_0 : List UInt8 := [42, 18, 158, 3, 17, 39, 15, 182, 0, 118, 60, 42, 18, 160, 3, 17, 39, 15, 182, 0, 118, 61, 42]
abbrev dktX7_bike_0 : List UInt8 := dkwX7_bike_0 ++ dktX7_bike_1
theorem dksX7_bike_0 : cX7_bike.data.toList.drop 0 = dktX7_bike_0 := by decide +kernel
theorem dksX7_bike_1 : cX7_bike.data.toList.drop 23 = dktX7_bike_1 := dk_seg dksX7_bike_0 23 rfl rfl
theorem dksX7_bike_2 : cX7_bike.data.toList.drop 46 = dktX7_bike_2 := dk_seg dksX7_bike_1 23 rfl rfl
theorem dksX7_bike_3 : cX7_bike.data.toList.drop 68 = dktX7_bike_3 := dk_seg dksX7_bike_2 22 rfl rfl
theorem dksX7_bike_4 : cX7_bike.data.toList.drop 92 = dktX7_bike_4 := dk_seg dksX7_bike_3 24 rfl rfl
theorem dksX7_bike_5 : cX7_bike.data.toList.drop 115 = dktX7_bike_5 := dk_seg dksX7_bike_4 23 rfl rfl
theorem dX7_bike_0 : decode cX7_bike 0 = .ok (.aload_n 0, 1) := dk_42 (dk_at dksX7_bike_0 0 rfl rfl)
theorem dX7_bike_1 : decode cX7_bike 1 = .ok (.ldc 158, 2) := dk_18 158 (dk_at dksX7_bike_0 1 rfl rfl)
theorem dX7_bike_3 : decode cX7_bike 3 = .ok (.iconst 0, 1) := dk_3 (dk_at dksX7_bike_0 3 rfl rfl)
theorem dX7_bike_4 : decode cX7_bike 4 = .ok (.sipush 9999, 3) := dk_17 39 15 (dk_at dksX7_bike_0 4 rfl rfl)
theorem dX7_bike_7 : decode cX7_bike 7 = .ok (.invokevirtual 118, 3) := dk_182 0 118 (dk_at dksX7_bike_0 7 rfl rfl)
theorem dX7_bike_10 : decode cX7_bike 10 = .ok (.istore_n 1, 1) := dk_60 (dk_at dksX7_bike_0 10 rfl rfl)
theorem dX7_bike_11 : decode cX7_bike 11 = .ok (.aload_n 0, 1) := dk_42 (dk_at dksX7_bike_0 11 rfl rfl)
theorem dX7_bike_12 : decode cX7_bike 12 = .ok (.ldc 160, 2) := dk_18 160 (dk_at dksX7_bike_0 12 rfl rfl)
theorem dX7_bike_14 : decode cX7_bike 14 = .ok (.iconst 0, 1) := dk_3 (dk_at dksX7_bike_0 14 rfl rfl)
theorem dX7_bike_15 : decode cX7_bike 15 = .ok (.sipush 9999, 3) := dk_17 39 15 (dk_at dksX7_bike_0 15 rfl rfl)
theorem dX7_bike_18 : decode cX7_bike 18 = .ok (.invokevirtual 118, 3) := dk_182 0 118 (dk_at dksX7_bike_0 18 rfl rfl)
theorem dX7_bike_21 : decode cX7_bike 21 = .ok (.istore_n 2, 1) := dk_61 (dk_at dksX7_bike_0 21 rfl rfl)
theorem dX7_bike_22 : decode cX7_bike 22 = .ok (.aload_n 0, 1) := dk_42 (dk_at dksX7_bike_0 22 rfl rfl)
theorem dX7_bike_23 : decode cX7_bike 23 = .ok (.ldc 114, 2) := dk_18 114 (dk_at dksX7_bike_1 0 rfl rfl)
theorem dX7_bike_25 : decode cX7_bike 25 = .ok (.invokevirtual 107, 3) := dk_182 0 107 (dk_at dksX7_bike_1 2 rfl rfl)
theorem dX7_bike_28 : decode cX7_bike 28 = .ok (.aload_n 0, 1) := dk_42 (dk_at dksX7_bike_1 5 rfl rfl)
theorem dX7_bike_29 : decode cX7_bike 29 = .ok (.getfield 35, 3) := dk_180 0 35 (dk_at dksX7_bike_1 6 rfl rfl)
theorem dX7_bike_32 : decode cX7_bike 32 = .ok (.getstatic 72, 3) := dk_178 0 72 (dk_at dksX7_bike_1 9 rfl rfl)
theorem dX7_bike_35 : decode cX7_bike 35 = .ok (.if_acmp .ne 24, 3) := dk_166 0 24 (dk_at dksX7_bike_1 12 rfl rfl)
theorem dX7_bike_38 : decode cX7_bike 38 = .ok (.aload_n 0, 1) := dk_42 (dk_at dksX7_bike_1 15 rfl rfl)
theorem dX7_bike_39 : decode cX7_bike 39 = .ok (.getfield 25, 3) := dk_180 0 25 (dk_at dksX7_bike_1 16 rfl rfl)
theorem dX7_bike_42 : decode cX7_bike 42 = .ok (.aload_n 0, 1) := dk_42 (dk_at dksX7_bike_1 19 rfl rfl)
theorem dX7_bike_43 : decode cX7_bike 43 = .ok (.getfield 62, 3) := dk_180 0 62 (dk_at dksX7_bike_1 20 rfl rfl)
theorem dX7_bike_46 : decode cX7_bike 46 = .ok (.invokevirtual 162, 3) := dk_182 0 162 (dk_at dksX7_bike_2 0 rfl rfl)
theorem dX7_bike_49 : decode cX7_bike 49 = .ok (.iconst (-1), 1) := dk_2 (dk_at dksX7_bike_2 3 rfl rfl)
theorem dX7_bike_50 : decode cX7_bike 50 = .ok (.if_icmp .eq 9, 3) := dk_159 0 9 (dk_at dksX7_bike_2 4 rfl rfl)
theorem dX7_bike_53 : decode cX7_bike 53 = .ok (.aload_n 0, 1) := dk_42 (dk_at dksX7_bike_2 7 rfl rfl)
theorem dX7_bike_54 : decode cX7_bike 54 = .ok (.iconst 2, 1) := dk_5 (dk_at dksX7_bike_2 8 rfl rfl)
theorem dX7_bike_55 : decode cX7_bike 55 = .ok (.invokevirtual 103, 3) := dk_182 0 103 (dk_at dksX7_bike_2 9 rfl rfl)
theorem dX7_bike_58 : decode cX7_bike 58 = .ok (.athrow, 1) := dk_191 (dk_at dksX7_bike_2 12 rfl rfl)
theorem dX7_bike_59 : decode cX7_bike 59 = .ok (.new 166, 3) := dk_187 0 166 (dk_at dksX7_bike_2 13 rfl rfl)
theorem dX7_bike_62 : decode cX7_bike 62 = .ok (.dup, 1) := dk_89 (dk_at dksX7_bike_2 16 rfl rfl)
theorem dX7_bike_63 : decode cX7_bike 63 = .ok (.iload_n 1, 1) := dk_27 (dk_at dksX7_bike_2 17 rfl rfl)
theorem dX7_bike_64 : decode cX7_bike 64 = .ok (.iload_n 2, 1) := dk_28 (dk_at dksX7_bike_2 18 rfl rfl)
theorem dX7_bike_65 : decode cX7_bike 65 = .ok (.aload_n 0, 1) := dk_42 (dk_at dksX7_bike_2 19 rfl rfl)
theorem dX7_bike_66 : decode cX7_bike 66 = .ok (.iconst 0, 1) := dk_3 (dk_at dksX7_bike_2 20 rfl rfl)
theorem dX7_bike_67 : decode cX7_bike 67 = .ok (.aload_n 0, 1) := dk_42 (dk_at dksX7_bike_2 21 rfl rfl)
theorem dX7_bike_68 : decode cX7_bike 68 = .ok (.getfield 25, 3) := dk_180 0 25 (dk_at dksX7_bike_3 0 rfl rfl)
theorem dX7_bike_71 : decode cX7_bike 71 = .ok (.getfield 115, 3) := dk_180 0 115 (dk_at dksX7_bike_3 3 rfl rfl)
theorem dX7_bike_74 : decode cX7_bike 74 = .ok (.iconst 1, 1) := dk_4 (dk_at dksX7_bike_3 6 rfl rfl)
theorem dX7_bike_75 : decode cX7_bike 75 = .ok (.isub, 1) := dk_100 (dk_at dksX7_bike_3 7 rfl rfl)
theorem dX7_bike_76 : decode cX7_bike 76 = .ok (.invokevirtual 111, 3) := dk_182 0 111 (dk_at dksX7_bike_3 8 rfl rfl)
theorem dX7_bike_79 : decode cX7_bike 79 = .ok (.invokespecial 168, 3) := dk_183 0 168 (dk_at dksX7_bike_3 11 rfl rfl)
theorem dX7_bike_82 : decode cX7_bike 82 = .ok (.astore_n 3, 1) := dk_78 (dk_at dksX7_bike_3 14 rfl rfl)
theorem dX7_bike_83 : decode cX7_bike 83 = .ok (.aload_n 0, 1) := dk_42 (dk_at dksX7_bike_3 15 rfl rfl)
theorem dX7_bike_84 : decode cX7_bike 84 = .ok (.ldc 171, 2) := dk_18 171 (dk_at dksX7_bike_3 16 rfl rfl)
theorem dX7_bike_86 : decode cX7_bike 86 = .ok (.invokevirtual 100, 3) := dk_182 0 100 (dk_at dksX7_bike_3 18 rfl rfl)
theorem dX7_bike_89 : decode cX7_bike 89 = .ok (.ifCond .eq 24, 3) := dk_153 0 24 (dk_at dksX7_bike_3 21 rfl rfl)
theorem dX7_bike_92 : decode cX7_bike 92 = .ok (.aload_n 3, 1) := dk_45 (dk_at dksX7_bike_4 0 rfl rfl)
theorem dX7_bike_93 : decode cX7_bike 93 = .ok (.aload_n 0, 1) := dk_42 (dk_at dksX7_bike_4 1 rfl rfl)
theorem dX7_bike_94 : decode cX7_bike 94 = .ok (.iconst 0, 1) := dk_3 (dk_at dksX7_bike_4 2 rfl rfl)
theorem dX7_bike_95 : decode cX7_bike 95 = .ok (.aload_n 0, 1) := dk_42 (dk_at dksX7_bike_4 3 rfl rfl)
theorem dX7_bike_96 : decode cX7_bike 96 = .ok (.getfield 25, 3) := dk_180 0 25 (dk_at dksX7_bike_4 4 rfl rfl)
theorem dX7_bike_99 : decode cX7_bike 99 = .ok (.getfield 150, 3) := dk_180 0 150 (dk_at dksX7_bike_4 7 rfl rfl)
theorem dX7_bike_102 : decode cX7_bike 102 = .ok (.invokevirtual 173, 3) := dk_182 0 173 (dk_at dksX7_bike_4 10 rfl rfl)
theorem dX7_bike_105 : decode cX7_bike 105 = .ok (.iconst 1, 1) := dk_4 (dk_at dksX7_bike_4 13 rfl rfl)
theorem dX7_bike_106 : decode cX7_bike 106 = .ok (.isub, 1) := dk_100 (dk_at dksX7_bike_4 14 rfl rfl)
theorem dX7_bike_107 : decode cX7_bike 107 = .ok (.invokevirtual 111, 3) := dk_182 0 111 (dk_at dksX7_bike_4 15 rfl rfl)
theorem dX7_bike_110 : decode cX7_bike 110 = .ok (.putfield 175, 3) := dk_181 0 175 (dk_at dksX7_bike_4 18 rfl rfl)
theorem dX7_bike_113 : decode cX7_bike 113 = .ok (.aload_n 3, 1) := dk_45 (dk_at dksX7_bike_4 21 rfl rfl)
theorem dX7_bike_114 : decode cX7_bike 114 = .ok (.aload_n 0, 1) := dk_42 (dk_at dksX7_bike_4 22 rfl rfl)
theorem dX7_bike_115 : decode cX7_bike 115 = .ok (.ldc 177, 2) := dk_18 177 (dk_at dksX7_bike_5 0 rfl rfl)
theorem dX7_bike_117 : decode cX7_bike 117 = .ok (.invokevirtual 100, 3) := dk_182 0 100 (dk_at dksX7_bike_5 2 rfl rfl)
theorem dX7_bike_120 : decode cX7_bike 120 = .ok (.putfield 179, 3) := dk_181 0 179 (dk_at dksX7_bike_5 5 rfl rfl)
theorem dX7_bike_123 : decode cX7_bike 123 = .ok (.aload_n 0, 1) := dk_42 (dk_at dksX7_bike_5 8 rfl rfl)
theorem dX7_bike_124 : decode cX7_bike 124 = .ok (.getfield 25, 3) := dk_180 0 25 (dk_at dksX7_bike_5 9 rfl rfl)
theorem dX7_bike_127 : decode cX7_bike 127 = .ok (.getfield 183, 3) := dk_180 0 183 (dk_at dksX7_bike_5 12 rfl rfl)
theorem dX7_bike_130 : decode cX7_bike 130 = .ok (.aload_n 3, 1) := dk_45 (dk_at dksX7_bike_5 15 rfl rfl)
theorem dX7_bike_131 : decode cX7_bike 131 = .ok (.invokevirtual 140, 3) := dk_182 0 140 (dk_at dksX7_bike_5 16 rfl rfl)
theorem dX7_bike_134 : decode cX7_bike 134 = .ok (.pop, 1) := dk_87 (dk_at dksX7_bike_5 19 rfl rfl)
theorem dX7_bike_135 : decode cX7_bike 135 = .ok (.return_, 1) := dk_177 (dk_at dksX7_bike_5 20 rfl rfl)
abbrev cX7_thief : ByteArray := prog_14_method_15_code
def yX7_thief : MethodName := ⟨RX7, "thief", "()V"⟩
def dkwX7_thief_5 : List UInt8 := [180, 0, 25, 182, 0, 209, 4, 100, 182, 0, 118, 183, 0, 212, 182, 0, 140, 87, 177]
abbrev dktX7_thief_5 : List UInt8 := dkwX7_thief_5 ++ []
def dkwX7_thief_4 : List UInt8 := [167, 0, 40, 42, 180, 0, 25, 180, 0, 194, 187, 0, 205, 89, 27, 28, 29, 42, 18, 207, 3, 42]
abbrev dktX7_thief_4 : List UInt8 := dkwX7_thief_4 ++ dktX7_thief_5
def dkwX7_thief_3 : List UInt8 := [153, 0, 27, 42, 180, 0, 25, 180, 0, 194, 187, 0, 202, 89, 27, 28, 29, 183, 0, 204, 182, 0, 140, 87]
abbrev dktX7_thief_3 : List UInt8 := dkwX7_thief_3 ++ dktX7_thief_4
def dkwX7_thief_2 : List UInt8 := [187, 0, 197, 89, 27, 28, 29, 183, 0, 199, 182, 0, 140, 87, 167, 0, 73, 42, 18, 200, 182, 0, 100]
abbrev dktX7_thief_2 : List UInt8 := dkwX7_thief_2 ++ dktX7_thief_3
def dkwX7_thief_1 : List UInt8 := [16, 99, 182, 0, 118, 62, 42, 18, 192, 182, 0, 100, 153, 0, 27, 42, 180, 0, 25, 180, 0, 194]
abbrev dktX7_thief_1 : List UInt8 := dkwX7_thief_1 ++ dktX7_thief_2
def dkwX7_thief_0 : List UInt8 := [42, 18, 186, 3, 5, 182, 0, 118, 60, 42, 18, 188, 3, 16, 100, 182, 0, 118, 61, 42, 18, 190, 3]
abbrev dktX7_thief_0 : List UInt8 := dkwX7_thief_0 ++ dktX7_thief_1
theorem dksX7_thief_0 : cX7_thief.data.toList.drop 0 = dktX7_thief_0 := by decide +kernel
theorem dksX7_thief_1 : cX7_thief.data.toList.drop 23 = dktX7_thief_1 := dk_seg dksX7_thief_0 23 rfl rfl
theorem dksX7_thief_2 : cX7_thief.data.toList.drop 45 = dktX7_thief_2 := dk_seg dksX7_thief_1 22 rfl rfl
theorem dksX7_thief_3 : cX7_thief.data.toList.drop 68 = dktX7_thief_3 := dk_seg dksX7_thief_2 23 rfl rfl
theorem dksX7_thief_4 : cX7_thief.data.toList.drop 92 = dktX7_thief_4 := dk_seg dksX7_thief_3 24 rfl rfl
theorem dksX7_thief_5 : cX7_thief.data.toList.drop 114 = dktX7_thief_5 := dk_seg dksX7_thief_4 22 rfl rfl
theorem dX7_thief_0 : decode cX7_thief 0 = .ok (.aload_n 0, 1) := dk_42 (dk_at dksX7_thief_0 0 rfl rfl)
theorem dX7_thief_1 : decode cX7_thief 1 = .ok (.ldc 186, 2) := dk_18 186 (dk_at dksX7_thief_0 1 rfl rfl)
theorem dX7_thief_3 : decode cX7_thief 3 = .ok (.iconst 0, 1) := dk_3 (dk_at dksX7_thief_0 3 rfl rfl)
theorem dX7_thief_4 : decode cX7_thief 4 = .ok (.iconst 2, 1) := dk_5 (dk_at dksX7_thief_0 4 rfl rfl)
theorem dX7_thief_5 : decode cX7_thief 5 = .ok (.invokevirtual 118, 3) := dk_182 0 118 (dk_at dksX7_thief_0 5 rfl rfl)
theorem dX7_thief_8 : decode cX7_thief 8 = .ok (.istore_n 1, 1) := dk_60 (dk_at dksX7_thief_0 8 rfl rfl)
theorem dX7_thief_9 : decode cX7_thief 9 = .ok (.aload_n 0, 1) := dk_42 (dk_at dksX7_thief_0 9 rfl rfl)
theorem dX7_thief_10 : decode cX7_thief 10 = .ok (.ldc 188, 2) := dk_18 188 (dk_at dksX7_thief_0 10 rfl rfl)
theorem dX7_thief_12 : decode cX7_thief 12 = .ok (.iconst 0, 1) := dk_3 (dk_at dksX7_thief_0 12 rfl rfl)
theorem dX7_thief_13 : decode cX7_thief 13 = .ok (.bipush 100, 2) := dk_16 100 (dk_at dksX7_thief_0 13 rfl rfl)
theorem dX7_thief_15 : decode cX7_thief 15 = .ok (.invokevirtual 118, 3) := dk_182 0 118 (dk_at dksX7_thief_0 15 rfl rfl)
theorem dX7_thief_18 : decode cX7_thief 18 = .ok (.istore_n 2, 1) := dk_61 (dk_at dksX7_thief_0 18 rfl rfl)
theorem dX7_thief_19 : decode cX7_thief 19 = .ok (.aload_n 0, 1) := dk_42 (dk_at dksX7_thief_0 19 rfl rfl)
theorem dX7_thief_20 : decode cX7_thief 20 = .ok (.ldc 190, 2) := dk_18 190 (dk_at dksX7_thief_0 20 rfl rfl)
theorem dX7_thief_22 : decode cX7_thief 22 = .ok (.iconst 0, 1) := dk_3 (dk_at dksX7_thief_0 22 rfl rfl)
theorem dX7_thief_23 : decode cX7_thief 23 = .ok (.bipush 99, 2) := dk_16 99 (dk_at dksX7_thief_1 0 rfl rfl)
theorem dX7_thief_25 : decode cX7_thief 25 = .ok (.invokevirtual 118, 3) := dk_182 0 118 (dk_at dksX7_thief_1 2 rfl rfl)
theorem dX7_thief_28 : decode cX7_thief 28 = .ok (.istore_n 3, 1) := dk_62 (dk_at dksX7_thief_1 5 rfl rfl)
theorem dX7_thief_29 : decode cX7_thief 29 = .ok (.aload_n 0, 1) := dk_42 (dk_at dksX7_thief_1 6 rfl rfl)
theorem dX7_thief_30 : decode cX7_thief 30 = .ok (.ldc 192, 2) := dk_18 192 (dk_at dksX7_thief_1 7 rfl rfl)
theorem dX7_thief_32 : decode cX7_thief 32 = .ok (.invokevirtual 100, 3) := dk_182 0 100 (dk_at dksX7_thief_1 9 rfl rfl)
theorem dX7_thief_35 : decode cX7_thief 35 = .ok (.ifCond .eq 27, 3) := dk_153 0 27 (dk_at dksX7_thief_1 12 rfl rfl)
theorem dX7_thief_38 : decode cX7_thief 38 = .ok (.aload_n 0, 1) := dk_42 (dk_at dksX7_thief_1 15 rfl rfl)
theorem dX7_thief_39 : decode cX7_thief 39 = .ok (.getfield 25, 3) := dk_180 0 25 (dk_at dksX7_thief_1 16 rfl rfl)
theorem dX7_thief_42 : decode cX7_thief 42 = .ok (.getfield 194, 3) := dk_180 0 194 (dk_at dksX7_thief_1 19 rfl rfl)
theorem dX7_thief_45 : decode cX7_thief 45 = .ok (.new 197, 3) := dk_187 0 197 (dk_at dksX7_thief_2 0 rfl rfl)
theorem dX7_thief_48 : decode cX7_thief 48 = .ok (.dup, 1) := dk_89 (dk_at dksX7_thief_2 3 rfl rfl)
theorem dX7_thief_49 : decode cX7_thief 49 = .ok (.iload_n 1, 1) := dk_27 (dk_at dksX7_thief_2 4 rfl rfl)
theorem dX7_thief_50 : decode cX7_thief 50 = .ok (.iload_n 2, 1) := dk_28 (dk_at dksX7_thief_2 5 rfl rfl)
theorem dX7_thief_51 : decode cX7_thief 51 = .ok (.iload_n 3, 1) := dk_29 (dk_at dksX7_thief_2 6 rfl rfl)
theorem dX7_thief_52 : decode cX7_thief 52 = .ok (.invokespecial 199, 3) := dk_183 0 199 (dk_at dksX7_thief_2 7 rfl rfl)
theorem dX7_thief_55 : decode cX7_thief 55 = .ok (.invokevirtual 140, 3) := dk_182 0 140 (dk_at dksX7_thief_2 10 rfl rfl)
theorem dX7_thief_58 : decode cX7_thief 58 = .ok (.pop, 1) := dk_87 (dk_at dksX7_thief_2 13 rfl rfl)
theorem dX7_thief_59 : decode cX7_thief 59 = .ok (.goto 73, 3) := dk_167 0 73 (dk_at dksX7_thief_2 14 rfl rfl)
theorem dX7_thief_62 : decode cX7_thief 62 = .ok (.aload_n 0, 1) := dk_42 (dk_at dksX7_thief_2 17 rfl rfl)
theorem dX7_thief_63 : decode cX7_thief 63 = .ok (.ldc 200, 2) := dk_18 200 (dk_at dksX7_thief_2 18 rfl rfl)
theorem dX7_thief_65 : decode cX7_thief 65 = .ok (.invokevirtual 100, 3) := dk_182 0 100 (dk_at dksX7_thief_2 20 rfl rfl)
theorem dX7_thief_68 : decode cX7_thief 68 = .ok (.ifCond .eq 27, 3) := dk_153 0 27 (dk_at dksX7_thief_3 0 rfl rfl)
theorem dX7_thief_71 : decode cX7_thief 71 = .ok (.aload_n 0, 1) := dk_42 (dk_at dksX7_thief_3 3 rfl rfl)
theorem dX7_thief_72 : decode cX7_thief 72 = .ok (.getfield 25, 3) := dk_180 0 25 (dk_at dksX7_thief_3 4 rfl rfl)
theorem dX7_thief_75 : decode cX7_thief 75 = .ok (.getfield 194, 3) := dk_180 0 194 (dk_at dksX7_thief_3 7 rfl rfl)
theorem dX7_thief_78 : decode cX7_thief 78 = .ok (.new 202, 3) := dk_187 0 202 (dk_at dksX7_thief_3 10 rfl rfl)
theorem dX7_thief_81 : decode cX7_thief 81 = .ok (.dup, 1) := dk_89 (dk_at dksX7_thief_3 13 rfl rfl)
theorem dX7_thief_82 : decode cX7_thief 82 = .ok (.iload_n 1, 1) := dk_27 (dk_at dksX7_thief_3 14 rfl rfl)
theorem dX7_thief_83 : decode cX7_thief 83 = .ok (.iload_n 2, 1) := dk_28 (dk_at dksX7_thief_3 15 rfl rfl)
theorem dX7_thief_84 : decode cX7_thief 84 = .ok (.iload_n 3, 1) := dk_29 (dk_at dksX7_thief_3 16 rfl rfl)
theorem dX7_thief_85 : decode cX7_thief 85 = .ok (.invokespecial 204, 3) := dk_183 0 204 (dk_at dksX7_thief_3 17 rfl rfl)
theorem dX7_thief_88 : decode cX7_thief 88 = .ok (.invokevirtual 140, 3) := dk_182 0 140 (dk_at dksX7_thief_3 20 rfl rfl)
theorem dX7_thief_91 : decode cX7_thief 91 = .ok (.pop, 1) := dk_87 (dk_at dksX7_thief_3 23 rfl rfl)
theorem dX7_thief_92 : decode cX7_thief 92 = .ok (.goto 40, 3) := dk_167 0 40 (dk_at dksX7_thief_4 0 rfl rfl)
theorem dX7_thief_95 : decode cX7_thief 95 = .ok (.aload_n 0, 1) := dk_42 (dk_at dksX7_thief_4 3 rfl rfl)
theorem dX7_thief_96 : decode cX7_thief 96 = .ok (.getfield 25, 3) := dk_180 0 25 (dk_at dksX7_thief_4 4 rfl rfl)
theorem dX7_thief_99 : decode cX7_thief 99 = .ok (.getfield 194, 3) := dk_180 0 194 (dk_at dksX7_thief_4 7 rfl rfl)
theorem dX7_thief_102 : decode cX7_thief 102 = .ok (.new 205, 3) := dk_187 0 205 (dk_at dksX7_thief_4 10 rfl rfl)
theorem dX7_thief_105 : decode cX7_thief 105 = .ok (.dup, 1) := dk_89 (dk_at dksX7_thief_4 13 rfl rfl)
theorem dX7_thief_106 : decode cX7_thief 106 = .ok (.iload_n 1, 1) := dk_27 (dk_at dksX7_thief_4 14 rfl rfl)
theorem dX7_thief_107 : decode cX7_thief 107 = .ok (.iload_n 2, 1) := dk_28 (dk_at dksX7_thief_4 15 rfl rfl)
theorem dX7_thief_108 : decode cX7_thief 108 = .ok (.iload_n 3, 1) := dk_29 (dk_at dksX7_thief_4 16 rfl rfl)
theorem dX7_thief_109 : decode cX7_thief 109 = .ok (.aload_n 0, 1) := dk_42 (dk_at dksX7_thief_4 17 rfl rfl)
theorem dX7_thief_110 : decode cX7_thief 110 = .ok (.ldc 207, 2) := dk_18 207 (dk_at dksX7_thief_4 18 rfl rfl)
theorem dX7_thief_112 : decode cX7_thief 112 = .ok (.iconst 0, 1) := dk_3 (dk_at dksX7_thief_4 20 rfl rfl)
theorem dX7_thief_113 : decode cX7_thief 113 = .ok (.aload_n 0, 1) := dk_42 (dk_at dksX7_thief_4 21 rfl rfl)
theorem dX7_thief_114 : decode cX7_thief 114 = .ok (.getfield 25, 3) := dk_180 0 25 (dk_at dksX7_thief_5 0 rfl rfl)
theorem dX7_thief_117 : decode cX7_thief 117 = .ok (.invokevirtual 209, 3) := dk_182 0 209 (dk_at dksX7_thief_5 3 rfl rfl)
theorem dX7_thief_120 : decode cX7_thief 120 = .ok (.iconst 1, 1) := dk_4 (dk_at dksX7_thief_5 6 rfl rfl)
theorem dX7_thief_121 : decode cX7_thief 121 = .ok (.isub, 1) := dk_100 (dk_at dksX7_thief_5 7 rfl rfl)
theorem dX7_thief_122 : decode cX7_thief 122 = .ok (.invokevirtual 118, 3) := dk_182 0 118 (dk_at dksX7_thief_5 8 rfl rfl)
theorem dX7_thief_125 : decode cX7_thief 125 = .ok (.invokespecial 212, 3) := dk_183 0 212 (dk_at dksX7_thief_5 11 rfl rfl)
theorem dX7_thief_128 : decode cX7_thief 128 = .ok (.invokevirtual 140, 3) := dk_182 0 140 (dk_at dksX7_thief_5 14 rfl rfl)
theorem dX7_thief_131 : decode cX7_thief 131 = .ok (.pop, 1) := dk_87 (dk_at dksX7_thief_5 17 rfl rfl)
theorem dX7_thief_132 : decode cX7_thief 132 = .ok (.return_, 1) := dk_177 (dk_at dksX7_thief_5 18 rfl rfl)
abbrev cX7_takesOnce : ByteArray := prog_14_method_19_code
def yX7_takesOnce : MethodName := ⟨RX7, "takesOnce", "(Ljava/lang/String;Z)Z"⟩
def dkwX7_takesOnce_0 : List UInt8 := [42, 43, 182, 0, 96, 153, 0, 13, 28, 153, 0, 9, 42, 5, 182, 0, 103, 191, 42, 43, 182, 0, 100, 172]
abbrev dktX7_takesOnce_0 : List UInt8 := dkwX7_takesOnce_0 ++ []
theorem dksX7_takesOnce_0 : cX7_takesOnce.data.toList.drop 0 = dktX7_takesOnce_0 := by decide +kernel
theorem dX7_takesOnce_0 : decode cX7_takesOnce 0 = .ok (.aload_n 0, 1) := dk_42 (dk_at dksX7_takesOnce_0 0 rfl rfl)
theorem dX7_takesOnce_1 : decode cX7_takesOnce 1 = .ok (.aload_n 1, 1) := dk_43 (dk_at dksX7_takesOnce_0 1 rfl rfl)
theorem dX7_takesOnce_2 : decode cX7_takesOnce 2 = .ok (.invokevirtual 96, 3) := dk_182 0 96 (dk_at dksX7_takesOnce_0 2 rfl rfl)
theorem dX7_takesOnce_5 : decode cX7_takesOnce 5 = .ok (.ifCond .eq 13, 3) := dk_153 0 13 (dk_at dksX7_takesOnce_0 5 rfl rfl)
theorem dX7_takesOnce_8 : decode cX7_takesOnce 8 = .ok (.iload_n 2, 1) := dk_28 (dk_at dksX7_takesOnce_0 8 rfl rfl)
theorem dX7_takesOnce_9 : decode cX7_takesOnce 9 = .ok (.ifCond .eq 9, 3) := dk_153 0 9 (dk_at dksX7_takesOnce_0 9 rfl rfl)
theorem dX7_takesOnce_12 : decode cX7_takesOnce 12 = .ok (.aload_n 0, 1) := dk_42 (dk_at dksX7_takesOnce_0 12 rfl rfl)
theorem dX7_takesOnce_13 : decode cX7_takesOnce 13 = .ok (.iconst 2, 1) := dk_5 (dk_at dksX7_takesOnce_0 13 rfl rfl)
theorem dX7_takesOnce_14 : decode cX7_takesOnce 14 = .ok (.invokevirtual 103, 3) := dk_182 0 103 (dk_at dksX7_takesOnce_0 14 rfl rfl)
theorem dX7_takesOnce_17 : decode cX7_takesOnce 17 = .ok (.athrow, 1) := dk_191 (dk_at dksX7_takesOnce_0 17 rfl rfl)
theorem dX7_takesOnce_18 : decode cX7_takesOnce 18 = .ok (.aload_n 0, 1) := dk_42 (dk_at dksX7_takesOnce_0 18 rfl rfl)
theorem dX7_takesOnce_19 : decode cX7_takesOnce 19 = .ok (.aload_n 1, 1) := dk_43 (dk_at dksX7_takesOnce_0 19 rfl rfl)
theorem dX7_takesOnce_20 : decode cX7_takesOnce 20 = .ok (.invokevirtual 100, 3) := dk_182 0 100 (dk_at dksX7_takesOnce_0 20 rfl rfl)
theorem dX7_takesOnce_23 : decode cX7_takesOnce 23 = .ok (.ireturn, 1) := dk_172 (dk_at dksX7_takesOnce_0 23 rfl rfl)
abbrev cX7_mark : ByteArray := prog_14_method_16_code
def yX7_mark : MethodName := ⟨RX7, "mark", "()V"⟩
def dkwX7_mark_2 : List UInt8 := [18, 225, 182, 0, 100, 181, 0, 227, 177]
abbrev dktX7_mark_2 : List UInt8 := dkwX7_mark_2 ++ []
def dkwX7_mark_1 : List UInt8 := [181, 0, 218, 42, 180, 0, 25, 42, 18, 221, 3, 16, 100, 182, 0, 118, 181, 0, 223, 42, 180, 0, 25, 42]
abbrev dktX7_mark_1 : List UInt8 := dkwX7_mark_1 ++ dktX7_mark_2
def dkwX7_mark_0 : List UInt8 := [42, 180, 0, 25, 4, 181, 0, 215, 42, 180, 0, 25, 42, 18, 146, 3, 17, 3, 231, 182, 0, 118]
abbrev dktX7_mark_0 : List UInt8 := dkwX7_mark_0 ++ dktX7_mark_1
theorem dksX7_mark_0 : cX7_mark.data.toList.drop 0 = dktX7_mark_0 := by decide +kernel
theorem dksX7_mark_1 : cX7_mark.data.toList.drop 22 = dktX7_mark_1 := dk_seg dksX7_mark_0 22 rfl rfl
theorem dksX7_mark_2 : cX7_mark.data.toList.drop 46 = dktX7_mark_2 := dk_seg dksX7_mark_1 24 rfl rfl
theorem dX7_mark_0 : decode cX7_mark 0 = .ok (.aload_n 0, 1) := dk_42 (dk_at dksX7_mark_0 0 rfl rfl)
theorem dX7_mark_1 : decode cX7_mark 1 = .ok (.getfield 25, 3) := dk_180 0 25 (dk_at dksX7_mark_0 1 rfl rfl)
theorem dX7_mark_4 : decode cX7_mark 4 = .ok (.iconst 1, 1) := dk_4 (dk_at dksX7_mark_0 4 rfl rfl)
theorem dX7_mark_5 : decode cX7_mark 5 = .ok (.putfield 215, 3) := dk_181 0 215 (dk_at dksX7_mark_0 5 rfl rfl)
theorem dX7_mark_8 : decode cX7_mark 8 = .ok (.aload_n 0, 1) := dk_42 (dk_at dksX7_mark_0 8 rfl rfl)
theorem dX7_mark_9 : decode cX7_mark 9 = .ok (.getfield 25, 3) := dk_180 0 25 (dk_at dksX7_mark_0 9 rfl rfl)
theorem dX7_mark_12 : decode cX7_mark 12 = .ok (.aload_n 0, 1) := dk_42 (dk_at dksX7_mark_0 12 rfl rfl)
theorem dX7_mark_13 : decode cX7_mark 13 = .ok (.ldc 146, 2) := dk_18 146 (dk_at dksX7_mark_0 13 rfl rfl)
theorem dX7_mark_15 : decode cX7_mark 15 = .ok (.iconst 0, 1) := dk_3 (dk_at dksX7_mark_0 15 rfl rfl)
theorem dX7_mark_16 : decode cX7_mark 16 = .ok (.sipush 999, 3) := dk_17 3 231 (dk_at dksX7_mark_0 16 rfl rfl)
theorem dX7_mark_19 : decode cX7_mark 19 = .ok (.invokevirtual 118, 3) := dk_182 0 118 (dk_at dksX7_mark_0 19 rfl rfl)
theorem dX7_mark_22 : decode cX7_mark 22 = .ok (.putfield 218, 3) := dk_181 0 218 (dk_at dksX7_mark_1 0 rfl rfl)
theorem dX7_mark_25 : decode cX7_mark 25 = .ok (.aload_n 0, 1) := dk_42 (dk_at dksX7_mark_1 3 rfl rfl)
theorem dX7_mark_26 : decode cX7_mark 26 = .ok (.getfield 25, 3) := dk_180 0 25 (dk_at dksX7_mark_1 4 rfl rfl)
theorem dX7_mark_29 : decode cX7_mark 29 = .ok (.aload_n 0, 1) := dk_42 (dk_at dksX7_mark_1 7 rfl rfl)
theorem dX7_mark_30 : decode cX7_mark 30 = .ok (.ldc 221, 2) := dk_18 221 (dk_at dksX7_mark_1 8 rfl rfl)
theorem dX7_mark_32 : decode cX7_mark 32 = .ok (.iconst 0, 1) := dk_3 (dk_at dksX7_mark_1 10 rfl rfl)
theorem dX7_mark_33 : decode cX7_mark 33 = .ok (.bipush 100, 2) := dk_16 100 (dk_at dksX7_mark_1 11 rfl rfl)
theorem dX7_mark_35 : decode cX7_mark 35 = .ok (.invokevirtual 118, 3) := dk_182 0 118 (dk_at dksX7_mark_1 13 rfl rfl)
theorem dX7_mark_38 : decode cX7_mark 38 = .ok (.putfield 223, 3) := dk_181 0 223 (dk_at dksX7_mark_1 16 rfl rfl)
theorem dX7_mark_41 : decode cX7_mark 41 = .ok (.aload_n 0, 1) := dk_42 (dk_at dksX7_mark_1 19 rfl rfl)
theorem dX7_mark_42 : decode cX7_mark 42 = .ok (.getfield 25, 3) := dk_180 0 25 (dk_at dksX7_mark_1 20 rfl rfl)
theorem dX7_mark_45 : decode cX7_mark 45 = .ok (.aload_n 0, 1) := dk_42 (dk_at dksX7_mark_1 23 rfl rfl)
theorem dX7_mark_46 : decode cX7_mark 46 = .ok (.ldc 225, 2) := dk_18 225 (dk_at dksX7_mark_2 0 rfl rfl)
theorem dX7_mark_48 : decode cX7_mark 48 = .ok (.invokevirtual 100, 3) := dk_182 0 100 (dk_at dksX7_mark_2 2 rfl rfl)
theorem dX7_mark_51 : decode cX7_mark 51 = .ok (.putfield 227, 3) := dk_181 0 227 (dk_at dksX7_mark_2 5 rfl rfl)
theorem dX7_mark_54 : decode cX7_mark 54 = .ok (.return_, 1) := dk_177 (dk_at dksX7_mark_2 8 rfl rfl)
abbrev cX7_watch : ByteArray := prog_14_method_17_code
def yX7_watch : MethodName := ⟨RX7, "watch", "()V"⟩
def dkwX7_watch_1 : List UInt8 := [181, 0, 235, 42, 180, 0, 25, 42, 18, 237, 3, 16, 99, 182, 0, 118, 181, 0, 239, 177]
abbrev dktX7_watch_1 : List UInt8 := dkwX7_watch_1 ++ []
def dkwX7_watch_0 : List UInt8 := [42, 180, 0, 25, 4, 181, 0, 230, 42, 180, 0, 25, 42, 18, 233, 3, 17, 3, 231, 182, 0, 118]
abbrev dktX7_watch_0 : List UInt8 := dkwX7_watch_0 ++ dktX7_watch_1
theorem dksX7_watch_0 : cX7_watch.data.toList.drop 0 = dktX7_watch_0 := by decide +kernel
theorem dksX7_watch_1 : cX7_watch.data.toList.drop 22 = dktX7_watch_1 := dk_seg dksX7_watch_0 22 rfl rfl
theorem dX7_watch_0 : decode cX7_watch 0 = .ok (.aload_n 0, 1) := dk_42 (dk_at dksX7_watch_0 0 rfl rfl)
theorem dX7_watch_1 : decode cX7_watch 1 = .ok (.getfield 25, 3) := dk_180 0 25 (dk_at dksX7_watch_0 1 rfl rfl)
theorem dX7_watch_4 : decode cX7_watch 4 = .ok (.iconst 1, 1) := dk_4 (dk_at dksX7_watch_0 4 rfl rfl)
theorem dX7_watch_5 : decode cX7_watch 5 = .ok (.putfield 230, 3) := dk_181 0 230 (dk_at dksX7_watch_0 5 rfl rfl)
theorem dX7_watch_8 : decode cX7_watch 8 = .ok (.aload_n 0, 1) := dk_42 (dk_at dksX7_watch_0 8 rfl rfl)
theorem dX7_watch_9 : decode cX7_watch 9 = .ok (.getfield 25, 3) := dk_180 0 25 (dk_at dksX7_watch_0 9 rfl rfl)
theorem dX7_watch_12 : decode cX7_watch 12 = .ok (.aload_n 0, 1) := dk_42 (dk_at dksX7_watch_0 12 rfl rfl)
theorem dX7_watch_13 : decode cX7_watch 13 = .ok (.ldc 233, 2) := dk_18 233 (dk_at dksX7_watch_0 13 rfl rfl)
theorem dX7_watch_15 : decode cX7_watch 15 = .ok (.iconst 0, 1) := dk_3 (dk_at dksX7_watch_0 15 rfl rfl)
theorem dX7_watch_16 : decode cX7_watch 16 = .ok (.sipush 999, 3) := dk_17 3 231 (dk_at dksX7_watch_0 16 rfl rfl)
theorem dX7_watch_19 : decode cX7_watch 19 = .ok (.invokevirtual 118, 3) := dk_182 0 118 (dk_at dksX7_watch_0 19 rfl rfl)
theorem dX7_watch_22 : decode cX7_watch 22 = .ok (.putfield 235, 3) := dk_181 0 235 (dk_at dksX7_watch_1 0 rfl rfl)
theorem dX7_watch_25 : decode cX7_watch 25 = .ok (.aload_n 0, 1) := dk_42 (dk_at dksX7_watch_1 3 rfl rfl)
theorem dX7_watch_26 : decode cX7_watch 26 = .ok (.getfield 25, 3) := dk_180 0 25 (dk_at dksX7_watch_1 4 rfl rfl)
theorem dX7_watch_29 : decode cX7_watch 29 = .ok (.aload_n 0, 1) := dk_42 (dk_at dksX7_watch_1 7 rfl rfl)
theorem dX7_watch_30 : decode cX7_watch 30 = .ok (.ldc 237, 2) := dk_18 237 (dk_at dksX7_watch_1 8 rfl rfl)
theorem dX7_watch_32 : decode cX7_watch 32 = .ok (.iconst 0, 1) := dk_3 (dk_at dksX7_watch_1 10 rfl rfl)
theorem dX7_watch_33 : decode cX7_watch 33 = .ok (.bipush 99, 2) := dk_16 99 (dk_at dksX7_watch_1 11 rfl rfl)
theorem dX7_watch_35 : decode cX7_watch 35 = .ok (.invokevirtual 118, 3) := dk_182 0 118 (dk_at dksX7_watch_1 13 rfl rfl)
theorem dX7_watch_38 : decode cX7_watch 38 = .ok (.putfield 239, 3) := dk_181 0 239 (dk_at dksX7_watch_1 16 rfl rfl)
theorem dX7_watch_41 : decode cX7_watch 41 = .ok (.return_, 1) := dk_177 (dk_at dksX7_watch_1 19 rfl rfl)
theorem q150 : (Jvm.Cond.initialized "LockRail$Reader") ∈ lw_all := lw_g (lw_at lw_m1 11 rfl) rfl
theorem q224 : (Jvm.Cond.fieldLinkNest "LockRail$Reader" (115 : Nat) "LockRail$Rail" "places" "I" "LockRail") ∈ lw_tbl := lw_at lw_m1 85 rfl
theorem q230 : (Jvm.Cond.fieldLinkNest "LockRail$Reader" (126 : Nat) "LockRail$Rail" "nights" "I" "LockRail") ∈ lw_tbl := lw_at lw_m1 91 rfl
theorem q233 : (Jvm.Cond.fieldLinkNest "LockRail$Reader" (218 : Nat) "LockRail$Rail" "markPrice" "I" "LockRail") ∈ lw_tbl := lw_at lw_m1 94 rfl
theorem q235 : (Jvm.Cond.fieldLinkNest "LockRail$Reader" (223 : Nat) "LockRail$Rail" "known" "I" "LockRail") ∈ lw_tbl := lw_at lw_m1 96 rfl
theorem q237 : (Jvm.Cond.fieldLinkNest "LockRail$Reader" (235 : Nat) "LockRail$Rail" "wage" "I" "LockRail") ∈ lw_tbl := lw_at lw_m1 98 rfl
theorem q239 : (Jvm.Cond.fieldLinkNest "LockRail$Reader" (239 : Nat) "LockRail$Rail" "adds" "I" "LockRail") ∈ lw_tbl := lw_at lw_m1 100 rfl
theorem q242 : (Jvm.Cond.fieldLinkNest "LockRail$Reader" (270 : Nat) "LockRail$Rail" "lines" "I" "LockRail") ∈ lw_tbl := lw_at lw_m1 103 rfl
theorem q244 : (Jvm.Cond.fieldLinkNest "LockRail$Reader" (227 : Nat) "LockRail$Rail" "isHidden" "Z" "LockRail") ∈ lw_tbl := lw_at lw_m1 105 rfl
theorem q246 : (Jvm.Cond.fieldLinkNest "LockRail$Reader" (215 : Nat) "LockRail$Rail" "hasMark" "Z" "LockRail") ∈ lw_tbl := lw_at lw_m1 107 rfl
theorem q248 : (Jvm.Cond.fieldLinkNest "LockRail$Reader" (230 : Nat) "LockRail$Rail" "hasWatch" "Z" "LockRail") ∈ lw_tbl := lw_at lw_m1 109 rfl
theorem q253 : (Jvm.Cond.fieldLinkNest "LockRail$Reader" (131 : Nat) "LockRail$Rail" "lamps" "Ljava/util/ArrayList;" "LockRail") ∈ lw_tbl := lw_at lw_m1 114 rfl
theorem q256 : (Jvm.Cond.fieldLinkNest "LockRail$Reader" (150 : Nat) "LockRail$Rail" "locks" "Ljava/util/ArrayList;" "LockRail") ∈ lw_tbl := lw_at lw_m1 117 rfl
theorem q262 : (Jvm.Cond.fieldLinkNest "LockRail$Reader" (183 : Nat) "LockRail$Rail" "bikes" "Ljava/util/ArrayList;" "LockRail") ∈ lw_tbl := lw_at lw_m1 123 rfl
theorem q269 : (Jvm.Cond.fieldLinkNest "LockRail$Reader" (194 : Nat) "LockRail$Rail" "thieves" "Ljava/util/ArrayList;" "LockRail") ∈ lw_tbl := lw_at lw_m1 130 rfl
theorem q412 : (Jvm.Cond.fieldLinkNest "LockRail$Reader" (44 : Nat) "LockRail" "tape" "[B" "LockRail") ∈ lw_tbl := lw_at lw_m2 33 rfl
theorem q414 : (Jvm.Cond.fieldLinkNest "LockRail$Reader" (15 : Nat) "LockRail" "taped" "I" "LockRail") ∈ lw_tbl := lw_at lw_m2 35 rfl
theorem q476 : (Jvm.Cond.instantiable "LockRail$Reader" (7 : Nat)) ∈ lw_all := lw_g (lw_at lw_m2 97 rfl) rfl
theorem q478 : (Jvm.Cond.instanceMethod ({ cls := "LockRail$Reader", name := "<init>", desc := "(LLockRail;)V" } : Jvm.MethodName)) ∈ lw_all := lw_g (lw_at lw_m2 99 rfl) rfl
theorem q479 : (Jvm.Cond.code ({ cls := "LockRail$Reader", name := "<init>", desc := "(LLockRail;)V" } : Jvm.MethodName) prog_14_method_1_code (2 : Nat) (Option.none : Option Jvm.ClassFile.FieldType)) ∈ lw_all := lw_g (lw_at lw_m2 100 rfl) rfl
theorem q480 : (Jvm.Cond.methodLink "LockRail$Reader" (9 : Nat) ({ cls := "java/lang/Object", name := "<init>", desc := "()V" } : Jvm.MethodName)) ∈ lw_all := lw_g (lw_at lw_m2 101 rfl) rfl
theorem q481 : (Jvm.Cond.classLink "LockRail$Reader" (22 : Nat) "LockRail$Rail") ∈ lw_all := lw_g (lw_at lw_m2 102 rfl) rfl
theorem q482 : (Jvm.Cond.methodLinkNest "LockRail$Reader" (24 : Nat) ({ cls := "LockRail$Rail", name := "<init>", desc := "()V" } : Jvm.MethodName) "LockRail") ∈ lw_tbl := lw_at lw_m2 103 rfl
theorem q483 : (Jvm.Cond.fieldLink "LockRail$Reader" (29 : Nat) "LockRail$Token" "END" "LLockRail$Token;") ∈ lw_all := lw_g (lw_at lw_m2 104 rfl) rfl
theorem q485 : (Jvm.Cond.methodLink "LockRail$Reader" (38 : Nat) ({ cls := "LockRail$Reader", name := "next", desc := "()V" } : Jvm.MethodName)) ∈ lw_all := lw_g (lw_at lw_m2 106 rfl) rfl
theorem q486 : (Jvm.Cond.privateMethod ({ cls := "LockRail$Reader", name := "next", desc := "()V" } : Jvm.MethodName)) ∈ lw_tbl := lw_at lw_m2 107 rfl
theorem q487 : (Jvm.Cond.instanceMethod ({ cls := "LockRail$Reader", name := "next", desc := "()V" } : Jvm.MethodName)) ∈ lw_all := lw_g (lw_at lw_m2 108 rfl) rfl
theorem q488 : (Jvm.Cond.code ({ cls := "LockRail$Reader", name := "next", desc := "()V" } : Jvm.MethodName) prog_14_method_3_code (1 : Nat) (Option.none : Option Jvm.ClassFile.FieldType)) ∈ lw_all := lw_g (lw_at lw_m2 109 rfl) rfl
theorem q489 : (Jvm.Cond.methodLink "LockRail$Reader" (55 : Nat) ({ cls := "LockRail$Reader", name := "isNext", desc := "(II)Z" } : Jvm.MethodName)) ∈ lw_all := lw_g (lw_at lw_m2 110 rfl) rfl
theorem q490 : (Jvm.Cond.privateMethod ({ cls := "LockRail$Reader", name := "isNext", desc := "(II)Z" } : Jvm.MethodName)) ∈ lw_tbl := lw_at lw_m2 111 rfl
theorem q491 : (Jvm.Cond.instanceMethod ({ cls := "LockRail$Reader", name := "isNext", desc := "(II)Z" } : Jvm.MethodName)) ∈ lw_all := lw_g (lw_at lw_m2 112 rfl) rfl
theorem q492 : (Jvm.Cond.code ({ cls := "LockRail$Reader", name := "isNext", desc := "(II)Z" } : Jvm.MethodName) prog_14_method_2_code (3 : Nat) (Option.some Jvm.ClassFile.FieldType.boolean)) ∈ lw_all := lw_g (lw_at lw_m2 113 rfl) rfl
theorem q493 : (Jvm.Cond.methodLinkNest "LockRail$Reader" (48 : Nat) ({ cls := "LockRail", name := "isIn", desc := "(JJJ)Z" } : Jvm.MethodName) "LockRail") ∈ lw_tbl := lw_at lw_m2 114 rfl
theorem q494 : (Jvm.Cond.fieldLink "LockRail$Reader" (59 : Nat) "LockRail$Token" "WORD" "LLockRail$Token;") ∈ lw_all := lw_g (lw_at lw_m2 115 rfl) rfl
theorem q496 : (Jvm.Cond.constant "LockRail$Reader" (65 : Nat) (99999 : Int32)) ∈ lw_all := lw_g (lw_at lw_m2 117 rfl) rfl
theorem q497 : (Jvm.Cond.methodLink "LockRail$Reader" (66 : Nat) ({ cls := "java/lang/Math", name := "min", desc := "(II)I" } : Jvm.MethodName)) ∈ lw_all := lw_g (lw_at lw_m2 118 rfl) rfl
theorem q500 : (Jvm.Cond.fieldLink "LockRail$Reader" (72 : Nat) "LockRail$Token" "NUMBER" "LLockRail$Token;") ∈ lw_all := lw_g (lw_at lw_m2 121 rfl) rfl
theorem q502 : (Jvm.Cond.fieldLink "LockRail$Reader" (75 : Nat) "LockRail$Token" "STOP" "LLockRail$Token;") ∈ lw_all := lw_g (lw_at lw_m2 123 rfl) rfl
theorem q504 : (Jvm.Cond.fieldLink "LockRail$Reader" (78 : Nat) "LockRail$Token" "NONE" "LLockRail$Token;") ∈ lw_all := lw_g (lw_at lw_m2 125 rfl) rfl
theorem q506 : (Jvm.Cond.fieldLink "LockRail$Reader" (19 : Nat) "LockRail$Reader" "size" "I") ∈ lw_all := lw_g (lw_at lw_m2 127 rfl) rfl
theorem q507 : (Jvm.Cond.fieldLink "LockRail$Reader" (25 : Nat) "LockRail$Reader" "rail" "LLockRail$Rail;") ∈ lw_all := lw_g (lw_at lw_m2 128 rfl) rfl
theorem q508 : (Jvm.Cond.fieldLink "LockRail$Reader" (41 : Nat) "LockRail$Reader" "at" "I") ∈ lw_all := lw_g (lw_at lw_m2 129 rfl) rfl
theorem q509 : (Jvm.Cond.fieldLink "LockRail$Reader" (52 : Nat) "LockRail$Reader" "from" "I") ∈ lw_all := lw_g (lw_at lw_m2 130 rfl) rfl
theorem q510 : (Jvm.Cond.fieldLink "LockRail$Reader" (62 : Nat) "LockRail$Reader" "value" "I") ∈ lw_all := lw_g (lw_at lw_m2 131 rfl) rfl
theorem q511 : (Jvm.Cond.fieldLink "LockRail$Reader" (35 : Nat) "LockRail$Reader" "token" "LLockRail$Token;") ∈ lw_all := lw_g (lw_at lw_m2 132 rfl) rfl
theorem q512 : (Jvm.Cond.fieldLink "LockRail$Reader" (3 : Nat) "LockRail$Reader" "this$0" "LLockRail;") ∈ lw_all := lw_g (lw_at lw_m2 133 rfl) rfl
theorem q513 : (Jvm.Cond.laysFinal "LockRail$Reader" "LockRail$Reader" "size" "I") ∈ lw_all := lw_g (lw_at lw_m2 134 rfl) rfl
theorem q514 : (Jvm.Cond.soleField "LockRail$Reader" "size") ∈ lw_all := lw_g (lw_at lw_m2 135 rfl) rfl
theorem q515 : (Jvm.Cond.laysFinal "LockRail$Reader" "LockRail$Reader" "rail" "LLockRail$Rail;") ∈ lw_all := lw_g (lw_at lw_m2 136 rfl) rfl
theorem q516 : (Jvm.Cond.soleField "LockRail$Reader" "rail") ∈ lw_all := lw_g (lw_at lw_m2 137 rfl) rfl
theorem q517 : (Jvm.Cond.lays "LockRail$Reader" "LockRail$Reader" "at" "I") ∈ lw_all := lw_g (lw_at lw_m2 138 rfl) rfl
theorem q518 : (Jvm.Cond.soleField "LockRail$Reader" "at") ∈ lw_all := lw_g (lw_at lw_m2 139 rfl) rfl
theorem q519 : (Jvm.Cond.lays "LockRail$Reader" "LockRail$Reader" "from" "I") ∈ lw_all := lw_g (lw_at lw_m2 140 rfl) rfl
theorem q520 : (Jvm.Cond.soleField "LockRail$Reader" "from") ∈ lw_all := lw_g (lw_at lw_m2 141 rfl) rfl
theorem q521 : (Jvm.Cond.lays "LockRail$Reader" "LockRail$Reader" "value" "I") ∈ lw_all := lw_g (lw_at lw_m2 142 rfl) rfl
theorem q522 : (Jvm.Cond.soleField "LockRail$Reader" "value") ∈ lw_all := lw_g (lw_at lw_m2 143 rfl) rfl
theorem q523 : (Jvm.Cond.lays "LockRail$Reader" "LockRail$Reader" "token" "LLockRail$Token;") ∈ lw_all := lw_g (lw_at lw_m2 144 rfl) rfl
theorem q524 : (Jvm.Cond.soleField "LockRail$Reader" "token") ∈ lw_all := lw_g (lw_at lw_m2 145 rfl) rfl
theorem q525 : (Jvm.Cond.laysFinal "LockRail$Reader" "LockRail$Reader" "this$0" "LLockRail;") ∈ lw_all := lw_g (lw_at lw_m2 146 rfl) rfl
theorem q526 : (Jvm.Cond.soleField "LockRail$Reader" "this$0") ∈ lw_all := lw_g (lw_at lw_m2 147 rfl) rfl
theorem q527 : (Jvm.Cond.superclass "LockRail$Reader" "java/lang/Object") ∈ lw_all := lw_g (lw_at lw_m2 148 rfl) rfl
theorem q529 : (Jvm.Cond.instanceMethod ({ cls := "LockRail$Reader", name := "read", desc := "()LLockRail$Rail;" } : Jvm.MethodName)) ∈ lw_all := lw_g (lw_at lw_m2 150 rfl) rfl
theorem q530 : (Jvm.Cond.selects "LockRail$Reader" ({ cls := "LockRail$Reader", name := "read", desc := "()LLockRail$Rail;" } : Jvm.MethodName) ({ cls := "LockRail$Reader", name := "read", desc := "()LLockRail$Rail;" } : Jvm.MethodName)) ∈ lw_all := lw_g (lw_at lw_m2 151 rfl) rfl
theorem q531 : (Jvm.Cond.code ({ cls := "LockRail$Reader", name := "read", desc := "()LLockRail$Rail;" } : Jvm.MethodName) prog_14_method_21_code (1 : Nat) (Option.some (Jvm.ClassFile.FieldType.object "LockRail$Rail"))) ∈ lw_all := lw_g (lw_at lw_m2 152 rfl) rfl
theorem q532 : (Jvm.Cond.methodLink "LockRail$Reader" (273 : Nat) ({ cls := "LockRail$Reader", name := "first", desc := "()V" } : Jvm.MethodName)) ∈ lw_all := lw_g (lw_at lw_m2 153 rfl) rfl
theorem q533 : (Jvm.Cond.privateMethod ({ cls := "LockRail$Reader", name := "first", desc := "()V" } : Jvm.MethodName)) ∈ lw_tbl := lw_at lw_m2 154 rfl
theorem q534 : (Jvm.Cond.instanceMethod ({ cls := "LockRail$Reader", name := "first", desc := "()V" } : Jvm.MethodName)) ∈ lw_all := lw_g (lw_at lw_m2 155 rfl) rfl
theorem q535 : (Jvm.Cond.code ({ cls := "LockRail$Reader", name := "first", desc := "()V" } : Jvm.MethodName) prog_14_method_11_code (1 : Nat) (Option.none : Option Jvm.ClassFile.FieldType)) ∈ lw_all := lw_g (lw_at lw_m2 156 rfl) rfl
theorem q536 : (Jvm.Cond.stringRef "LockRail$Reader" (122 : Nat) "rail") ∈ lw_tbl := lw_at lw_m2 157 rfl
theorem q537 : (Jvm.Cond.methodLink "LockRail$Reader" (107 : Nat) ({ cls := "LockRail$Reader", name := "needs", desc := "(Ljava/lang/String;)V" } : Jvm.MethodName)) ∈ lw_all := lw_g (lw_at lw_m2 158 rfl) rfl
theorem q538 : (Jvm.Cond.privateMethod ({ cls := "LockRail$Reader", name := "needs", desc := "(Ljava/lang/String;)V" } : Jvm.MethodName)) ∈ lw_tbl := lw_at lw_m2 159 rfl
theorem q539 : (Jvm.Cond.instanceMethod ({ cls := "LockRail$Reader", name := "needs", desc := "(Ljava/lang/String;)V" } : Jvm.MethodName)) ∈ lw_all := lw_g (lw_at lw_m2 160 rfl) rfl
theorem q540 : (Jvm.Cond.code ({ cls := "LockRail$Reader", name := "needs", desc := "(Ljava/lang/String;)V" } : Jvm.MethodName) prog_14_method_7_code (2 : Nat) (Option.none : Option Jvm.ClassFile.FieldType)) ∈ lw_all := lw_g (lw_at lw_m2 161 rfl) rfl
theorem q541 : (Jvm.Cond.methodLink "LockRail$Reader" (100 : Nat) ({ cls := "LockRail$Reader", name := "takes", desc := "(Ljava/lang/String;)Z" } : Jvm.MethodName)) ∈ lw_all := lw_g (lw_at lw_m2 162 rfl) rfl
theorem q542 : (Jvm.Cond.privateMethod ({ cls := "LockRail$Reader", name := "takes", desc := "(Ljava/lang/String;)Z" } : Jvm.MethodName)) ∈ lw_tbl := lw_at lw_m2 163 rfl
theorem q543 : (Jvm.Cond.instanceMethod ({ cls := "LockRail$Reader", name := "takes", desc := "(Ljava/lang/String;)Z" } : Jvm.MethodName)) ∈ lw_all := lw_g (lw_at lw_m2 164 rfl) rfl
theorem q544 : (Jvm.Cond.code ({ cls := "LockRail$Reader", name := "takes", desc := "(Ljava/lang/String;)Z" } : Jvm.MethodName) prog_14_method_6_code (3 : Nat) (Option.some Jvm.ClassFile.FieldType.boolean)) ∈ lw_all := lw_g (lw_at lw_m2 165 rfl) rfl
theorem q545 : (Jvm.Cond.methodLink "LockRail$Reader" (96 : Nat) ({ cls := "LockRail$Reader", name := "is", desc := "(Ljava/lang/String;)Z" } : Jvm.MethodName)) ∈ lw_all := lw_g (lw_at lw_m2 166 rfl) rfl
theorem q546 : (Jvm.Cond.privateMethod ({ cls := "LockRail$Reader", name := "is", desc := "(Ljava/lang/String;)Z" } : Jvm.MethodName)) ∈ lw_tbl := lw_at lw_m2 167 rfl
theorem q547 : (Jvm.Cond.instanceMethod ({ cls := "LockRail$Reader", name := "is", desc := "(Ljava/lang/String;)Z" } : Jvm.MethodName)) ∈ lw_all := lw_g (lw_at lw_m2 168 rfl) rfl
theorem q548 : (Jvm.Cond.code ({ cls := "LockRail$Reader", name := "is", desc := "(Ljava/lang/String;)Z" } : Jvm.MethodName) prog_14_method_5_code (3 : Nat) (Option.some Jvm.ClassFile.FieldType.boolean)) ∈ lw_all := lw_g (lw_at lw_m2 169 rfl) rfl
theorem q549 : (Jvm.Cond.methodLink "LockRail$Reader" (86 : Nat) ({ cls := "java/lang/String", name := "length", desc := "()I" } : Jvm.MethodName)) ∈ lw_all := lw_g (lw_at lw_m2 170 rfl) rfl
theorem q559 : (Jvm.Cond.methodLink "LockRail$Reader" (92 : Nat) ({ cls := "java/lang/String", name := "charAt", desc := "(I)C" } : Jvm.MethodName)) ∈ lw_all := lw_g (lw_at lw_m2 180 rfl) rfl
theorem q597 : (Jvm.Cond.methodLink "LockRail$Reader" (103 : Nat) ({ cls := "LockRail$Reader", name := "wrong", desc := "(I)LLockRail$Fault;" } : Jvm.MethodName)) ∈ lw_all := lw_g (lw_at lw_m2 218 rfl) rfl
theorem q598 : (Jvm.Cond.privateMethod ({ cls := "LockRail$Reader", name := "wrong", desc := "(I)LLockRail$Fault;" } : Jvm.MethodName)) ∈ lw_tbl := lw_at lw_m2 219 rfl
theorem q599 : (Jvm.Cond.instanceMethod ({ cls := "LockRail$Reader", name := "wrong", desc := "(I)LLockRail$Fault;" } : Jvm.MethodName)) ∈ lw_all := lw_g (lw_at lw_m2 220 rfl) rfl
theorem q600 : (Jvm.Cond.code ({ cls := "LockRail$Reader", name := "wrong", desc := "(I)LLockRail$Fault;" } : Jvm.MethodName) prog_14_method_4_code (2 : Nat) (Option.some (Jvm.ClassFile.FieldType.object "LockRail$Fault"))) ∈ lw_all := lw_g (lw_at lw_m2 221 rfl) rfl
theorem q601 : (Jvm.Cond.classLink "LockRail$Reader" (81 : Nat) "LockRail$Fault") ∈ lw_all := lw_g (lw_at lw_m2 222 rfl) rfl
theorem q655 : (Jvm.Cond.methodLink "LockRail$Reader" (83 : Nat) ({ cls := "LockRail$Fault", name := "<init>", desc := "(II)V" } : Jvm.MethodName)) ∈ lw_all := lw_g (lw_at lw_m3 36 rfl) rfl
theorem q685 : (Jvm.Cond.stringRef "LockRail$Reader" (123 : Nat) "places") ∈ lw_tbl := lw_at lw_m3 66 rfl
theorem q686 : (Jvm.Cond.methodLink "LockRail$Reader" (118 : Nat) ({ cls := "LockRail$Reader", name := "told", desc := "(Ljava/lang/String;II)I" } : Jvm.MethodName)) ∈ lw_all := lw_g (lw_at lw_m3 67 rfl) rfl
theorem q687 : (Jvm.Cond.privateMethod ({ cls := "LockRail$Reader", name := "told", desc := "(Ljava/lang/String;II)I" } : Jvm.MethodName)) ∈ lw_tbl := lw_at lw_m3 68 rfl
theorem q688 : (Jvm.Cond.instanceMethod ({ cls := "LockRail$Reader", name := "told", desc := "(Ljava/lang/String;II)I" } : Jvm.MethodName)) ∈ lw_all := lw_g (lw_at lw_m3 69 rfl) rfl
theorem q689 : (Jvm.Cond.code ({ cls := "LockRail$Reader", name := "told", desc := "(Ljava/lang/String;II)I" } : Jvm.MethodName) prog_14_method_9_code (4 : Nat) (Option.some Jvm.ClassFile.FieldType.int)) ∈ lw_all := lw_g (lw_at lw_m3 70 rfl) rfl
theorem q690 : (Jvm.Cond.methodLink "LockRail$Reader" (111 : Nat) ({ cls := "LockRail$Reader", name := "number", desc := "(II)I" } : Jvm.MethodName)) ∈ lw_all := lw_g (lw_at lw_m3 71 rfl) rfl
theorem q691 : (Jvm.Cond.privateMethod ({ cls := "LockRail$Reader", name := "number", desc := "(II)I" } : Jvm.MethodName)) ∈ lw_tbl := lw_at lw_m3 72 rfl
theorem q692 : (Jvm.Cond.instanceMethod ({ cls := "LockRail$Reader", name := "number", desc := "(II)I" } : Jvm.MethodName)) ∈ lw_all := lw_g (lw_at lw_m3 73 rfl) rfl
theorem q693 : (Jvm.Cond.code ({ cls := "LockRail$Reader", name := "number", desc := "(II)I" } : Jvm.MethodName) prog_14_method_8_code (4 : Nat) (Option.some Jvm.ClassFile.FieldType.int)) ∈ lw_all := lw_g (lw_at lw_m3 74 rfl) rfl
theorem q694 : (Jvm.Cond.stringRef "LockRail$Reader" (124 : Nat) "nights") ∈ lw_tbl := lw_at lw_m3 75 rfl
theorem q695 : (Jvm.Cond.methodLink "LockRail$Reader" (276 : Nat) ({ cls := "LockRail$Reader", name := "line", desc := "()V" } : Jvm.MethodName)) ∈ lw_all := lw_g (lw_at lw_m3 76 rfl) rfl
theorem q696 : (Jvm.Cond.privateMethod ({ cls := "LockRail$Reader", name := "line", desc := "()V" } : Jvm.MethodName)) ∈ lw_tbl := lw_at lw_m3 77 rfl
theorem q697 : (Jvm.Cond.instanceMethod ({ cls := "LockRail$Reader", name := "line", desc := "()V" } : Jvm.MethodName)) ∈ lw_all := lw_g (lw_at lw_m3 78 rfl) rfl
theorem q698 : (Jvm.Cond.code ({ cls := "LockRail$Reader", name := "line", desc := "()V" } : Jvm.MethodName) prog_14_method_20_code (1 : Nat) (Option.none : Option Jvm.ClassFile.FieldType)) ∈ lw_all := lw_g (lw_at lw_m3 79 rfl) rfl
theorem q699 : (Jvm.Cond.stringRef "LockRail$Reader" (241 : Nat) "lamp") ∈ lw_tbl := lw_at lw_m3 80 rfl
theorem q700 : (Jvm.Cond.methodLink "LockRail$Reader" (173 : Nat) ({ cls := "java/util/ArrayList", name := "size", desc := "()I" } : Jvm.MethodName)) ∈ lw_all := lw_g (lw_at lw_m3 81 rfl) rfl
theorem q704 : (Jvm.Cond.methodLink "LockRail$Reader" (243 : Nat) ({ cls := "LockRail$Reader", name := "takes", desc := "(Ljava/lang/String;II)Z" } : Jvm.MethodName)) ∈ lw_all := lw_g (lw_at lw_m3 85 rfl) rfl
theorem q705 : (Jvm.Cond.privateMethod ({ cls := "LockRail$Reader", name := "takes", desc := "(Ljava/lang/String;II)Z" } : Jvm.MethodName)) ∈ lw_tbl := lw_at lw_m3 86 rfl
theorem q706 : (Jvm.Cond.instanceMethod ({ cls := "LockRail$Reader", name := "takes", desc := "(Ljava/lang/String;II)Z" } : Jvm.MethodName)) ∈ lw_all := lw_g (lw_at lw_m3 87 rfl) rfl
theorem q707 : (Jvm.Cond.code ({ cls := "LockRail$Reader", name := "takes", desc := "(Ljava/lang/String;II)Z" } : Jvm.MethodName) prog_14_method_18_code (4 : Nat) (Option.some Jvm.ClassFile.FieldType.boolean)) ∈ lw_all := lw_g (lw_at lw_m3 88 rfl) rfl
theorem q708 : (Jvm.Cond.methodLink "LockRail$Reader" (246 : Nat) ({ cls := "LockRail$Reader", name := "lamp", desc := "()V" } : Jvm.MethodName)) ∈ lw_all := lw_g (lw_at lw_m3 89 rfl) rfl
theorem q709 : (Jvm.Cond.privateMethod ({ cls := "LockRail$Reader", name := "lamp", desc := "()V" } : Jvm.MethodName)) ∈ lw_tbl := lw_at lw_m3 90 rfl
theorem q710 : (Jvm.Cond.instanceMethod ({ cls := "LockRail$Reader", name := "lamp", desc := "()V" } : Jvm.MethodName)) ∈ lw_all := lw_g (lw_at lw_m3 91 rfl) rfl
theorem q711 : (Jvm.Cond.code ({ cls := "LockRail$Reader", name := "lamp", desc := "()V" } : Jvm.MethodName) prog_14_method_12_code (2 : Nat) (Option.none : Option Jvm.ClassFile.FieldType)) ∈ lw_all := lw_g (lw_at lw_m3 92 rfl) rfl
theorem q712 : (Jvm.Cond.methodLink "LockRail$Reader" (128 : Nat) ({ cls := "LockRail$Reader", name := "place", desc := "()I" } : Jvm.MethodName)) ∈ lw_all := lw_g (lw_at lw_m3 93 rfl) rfl
theorem q713 : (Jvm.Cond.privateMethod ({ cls := "LockRail$Reader", name := "place", desc := "()I" } : Jvm.MethodName)) ∈ lw_tbl := lw_at lw_m3 94 rfl
theorem q714 : (Jvm.Cond.instanceMethod ({ cls := "LockRail$Reader", name := "place", desc := "()I" } : Jvm.MethodName)) ∈ lw_all := lw_g (lw_at lw_m3 95 rfl) rfl
theorem q715 : (Jvm.Cond.code ({ cls := "LockRail$Reader", name := "place", desc := "()I" } : Jvm.MethodName) prog_14_method_10_code (1 : Nat) (Option.some Jvm.ClassFile.FieldType.int)) ∈ lw_all := lw_g (lw_at lw_m3 96 rfl) rfl
theorem q716 : (Jvm.Cond.stringRef "LockRail$Reader" (114 : Nat) "at") ∈ lw_tbl := lw_at lw_m3 97 rfl
theorem q717 : (Jvm.Cond.classLink "LockRail$Reader" (135 : Nat) "LockRail$Lamp") ∈ lw_all := lw_g (lw_at lw_m3 98 rfl) rfl
theorem q719 : (Jvm.Cond.stringRef "LockRail$Reader" (137 : Nat) "bright") ∈ lw_tbl := lw_at lw_m3 100 rfl
theorem q720 : (Jvm.Cond.methodLink "LockRail$Reader" (139 : Nat) ({ cls := "LockRail$Lamp", name := "<init>", desc := "(II)V" } : Jvm.MethodName)) ∈ lw_all := lw_g (lw_at lw_m3 101 rfl) rfl
theorem q731 : (Jvm.Cond.methodLink "LockRail$Reader" (140 : Nat) ({ cls := "java/util/ArrayList", name := "add", desc := "(Ljava/lang/Object;)Z" } : Jvm.MethodName)) ∈ lw_all := lw_g (lw_at lw_m3 112 rfl) rfl
theorem q778 : (Jvm.Cond.selects "LockRail$Reader" ({ cls := "java/lang/Object", name := "getClass", desc := "()Ljava/lang/Class;" } : Jvm.MethodName) ({ cls := "java/lang/Object", name := "getClass", desc := "()Ljava/lang/Class;" } : Jvm.MethodName)) ∈ lw_all := lw_g (lw_at lw_m3 159 rfl) rfl
theorem q799 : (Jvm.Cond.stringRef "LockRail$Reader" (171 : Nat) "lock") ∈ lw_tbl := lw_at lw_m3 180 rfl
theorem q800 : (Jvm.Cond.methodLink "LockRail$Reader" (248 : Nat) ({ cls := "LockRail$Reader", name := "lock", desc := "()V" } : Jvm.MethodName)) ∈ lw_all := lw_g (lw_at lw_m3 181 rfl) rfl
theorem q801 : (Jvm.Cond.privateMethod ({ cls := "LockRail$Reader", name := "lock", desc := "()V" } : Jvm.MethodName)) ∈ lw_tbl := lw_at lw_m3 182 rfl
theorem q802 : (Jvm.Cond.instanceMethod ({ cls := "LockRail$Reader", name := "lock", desc := "()V" } : Jvm.MethodName)) ∈ lw_all := lw_g (lw_at lw_m3 183 rfl) rfl
theorem q803 : (Jvm.Cond.code ({ cls := "LockRail$Reader", name := "lock", desc := "()V" } : Jvm.MethodName) prog_14_method_13_code (4 : Nat) (Option.none : Option Jvm.ClassFile.FieldType)) ∈ lw_all := lw_g (lw_at lw_m3 184 rfl) rfl
theorem q804 : (Jvm.Cond.stringRef "LockRail$Reader" (146 : Nat) "price") ∈ lw_tbl := lw_at lw_m3 185 rfl
theorem q805 : (Jvm.Cond.stringRef "LockRail$Reader" (148 : Nat) "cuts") ∈ lw_tbl := lw_at lw_m3 186 rfl
theorem q806 : (Jvm.Cond.classLink "LockRail$Reader" (153 : Nat) "LockRail$Lock") ∈ lw_all := lw_g (lw_at lw_m3 187 rfl) rfl
theorem q808 : (Jvm.Cond.methodLink "LockRail$Reader" (155 : Nat) ({ cls := "LockRail$Lock", name := "<init>", desc := "(I[I)V" } : Jvm.MethodName)) ∈ lw_all := lw_g (lw_at lw_m3 189 rfl) rfl
theorem q821 : (Jvm.Cond.stringRef "LockRail$Reader" (250 : Nat) "bike") ∈ lw_tbl := lw_at lw_m3 202 rfl
theorem q822 : (Jvm.Cond.methodLink "LockRail$Reader" (252 : Nat) ({ cls := "LockRail$Reader", name := "bike", desc := "()V" } : Jvm.MethodName)) ∈ lw_all := lw_g (lw_at lw_m3 203 rfl) rfl
theorem q823 : (Jvm.Cond.privateMethod ({ cls := "LockRail$Reader", name := "bike", desc := "()V" } : Jvm.MethodName)) ∈ lw_tbl := lw_at lw_m3 204 rfl
theorem q824 : (Jvm.Cond.instanceMethod ({ cls := "LockRail$Reader", name := "bike", desc := "()V" } : Jvm.MethodName)) ∈ lw_all := lw_g (lw_at lw_m3 205 rfl) rfl
theorem q825 : (Jvm.Cond.code ({ cls := "LockRail$Reader", name := "bike", desc := "()V" } : Jvm.MethodName) prog_14_method_14_code (4 : Nat) (Option.none : Option Jvm.ClassFile.FieldType)) ∈ lw_all := lw_g (lw_at lw_m3 206 rfl) rfl
theorem q826 : (Jvm.Cond.stringRef "LockRail$Reader" (158 : Nat) "worth") ∈ lw_tbl := lw_at lw_m3 207 rfl
theorem q827 : (Jvm.Cond.stringRef "LockRail$Reader" (160 : Nat) "seems") ∈ lw_tbl := lw_at lw_m3 208 rfl
theorem q828 : (Jvm.Cond.methodLink "LockRail$Reader" (162 : Nat) ({ cls := "LockRail$Rail", name := "standsOn", desc := "(I)I" } : Jvm.MethodName)) ∈ lw_all := lw_g (lw_at lw_m3 209 rfl) rfl
theorem q846 : (Jvm.Cond.classLink "LockRail$Reader" (166 : Nat) "LockRail$Bike") ∈ lw_all := lw_g (lw_at lw_m3 227 rfl) rfl
theorem q848 : (Jvm.Cond.methodLink "LockRail$Reader" (168 : Nat) ({ cls := "LockRail$Bike", name := "<init>", desc := "(III)V" } : Jvm.MethodName)) ∈ lw_all := lw_g (lw_at lw_m3 229 rfl) rfl
theorem q865 : (Jvm.Cond.fieldLinkNest "LockRail$Reader" (175 : Nat) "LockRail$Bike" "lock" "I" "LockRail") ∈ lw_tbl := lw_at lw_m4 6 rfl
theorem q869 : (Jvm.Cond.fieldLinkNest "LockRail$Reader" (179 : Nat) "LockRail$Bike" "isMarked" "Z" "LockRail") ∈ lw_tbl := lw_at lw_m4 10 rfl
theorem q882 : (Jvm.Cond.stringRef "LockRail$Reader" (177 : Nat) "marked") ∈ lw_tbl := lw_at lw_m4 23 rfl
theorem q883 : (Jvm.Cond.stringRef "LockRail$Reader" (254 : Nat) "thief") ∈ lw_tbl := lw_at lw_m4 24 rfl
theorem q884 : (Jvm.Cond.methodLink "LockRail$Reader" (256 : Nat) ({ cls := "LockRail$Reader", name := "thief", desc := "()V" } : Jvm.MethodName)) ∈ lw_all := lw_g (lw_at lw_m4 25 rfl) rfl
theorem q885 : (Jvm.Cond.privateMethod ({ cls := "LockRail$Reader", name := "thief", desc := "()V" } : Jvm.MethodName)) ∈ lw_tbl := lw_at lw_m4 26 rfl
theorem q886 : (Jvm.Cond.instanceMethod ({ cls := "LockRail$Reader", name := "thief", desc := "()V" } : Jvm.MethodName)) ∈ lw_all := lw_g (lw_at lw_m4 27 rfl) rfl
theorem q887 : (Jvm.Cond.code ({ cls := "LockRail$Reader", name := "thief", desc := "()V" } : Jvm.MethodName) prog_14_method_15_code (4 : Nat) (Option.none : Option Jvm.ClassFile.FieldType)) ∈ lw_all := lw_g (lw_at lw_m4 28 rfl) rfl
theorem q888 : (Jvm.Cond.stringRef "LockRail$Reader" (186 : Nat) "tool") ∈ lw_tbl := lw_at lw_m4 29 rfl
theorem q889 : (Jvm.Cond.stringRef "LockRail$Reader" (188 : Nat) "comes") ∈ lw_tbl := lw_at lw_m4 30 rfl
theorem q890 : (Jvm.Cond.stringRef "LockRail$Reader" (190 : Nat) "fears") ∈ lw_tbl := lw_at lw_m4 31 rfl
theorem q891 : (Jvm.Cond.stringRef "LockRail$Reader" (192 : Nat) "best") ∈ lw_tbl := lw_at lw_m4 32 rfl
theorem q892 : (Jvm.Cond.classLink "LockRail$Reader" (197 : Nat) "LockRail$Best") ∈ lw_all := lw_g (lw_at lw_m4 33 rfl) rfl
theorem q894 : (Jvm.Cond.methodLink "LockRail$Reader" (199 : Nat) ({ cls := "LockRail$Best", name := "<init>", desc := "(III)V" } : Jvm.MethodName)) ∈ lw_all := lw_g (lw_at lw_m4 35 rfl) rfl
theorem q916 : (Jvm.Cond.stringRef "LockRail$Reader" (200 : Nat) "any") ∈ lw_tbl := lw_at lw_m4 57 rfl
theorem q917 : (Jvm.Cond.classLink "LockRail$Reader" (202 : Nat) "LockRail$Any") ∈ lw_all := lw_g (lw_at lw_m4 58 rfl) rfl
theorem q919 : (Jvm.Cond.methodLink "LockRail$Reader" (204 : Nat) ({ cls := "LockRail$Any", name := "<init>", desc := "(III)V" } : Jvm.MethodName)) ∈ lw_all := lw_g (lw_at lw_m4 60 rfl) rfl
theorem q927 : (Jvm.Cond.classLink "LockRail$Reader" (205 : Nat) "LockRail$Just") ∈ lw_all := lw_g (lw_at lw_m4 68 rfl) rfl
theorem q929 : (Jvm.Cond.stringRef "LockRail$Reader" (207 : Nat) "just") ∈ lw_tbl := lw_at lw_m4 70 rfl
theorem q930 : (Jvm.Cond.methodLink "LockRail$Reader" (209 : Nat) ({ cls := "LockRail$Rail", name := "many", desc := "()I" } : Jvm.MethodName)) ∈ lw_all := lw_g (lw_at lw_m4 71 rfl) rfl
theorem q934 : (Jvm.Cond.methodLink "LockRail$Reader" (212 : Nat) ({ cls := "LockRail$Just", name := "<init>", desc := "(IIII)V" } : Jvm.MethodName)) ∈ lw_all := lw_g (lw_at lw_m4 75 rfl) rfl
theorem q945 : (Jvm.Cond.stringRef "LockRail$Reader" (258 : Nat) "mark") ∈ lw_tbl := lw_at lw_m4 86 rfl
theorem q946 : (Jvm.Cond.methodLink "LockRail$Reader" (260 : Nat) ({ cls := "LockRail$Reader", name := "takesOnce", desc := "(Ljava/lang/String;Z)Z" } : Jvm.MethodName)) ∈ lw_all := lw_g (lw_at lw_m4 87 rfl) rfl
theorem q947 : (Jvm.Cond.privateMethod ({ cls := "LockRail$Reader", name := "takesOnce", desc := "(Ljava/lang/String;Z)Z" } : Jvm.MethodName)) ∈ lw_tbl := lw_at lw_m4 88 rfl
theorem q948 : (Jvm.Cond.instanceMethod ({ cls := "LockRail$Reader", name := "takesOnce", desc := "(Ljava/lang/String;Z)Z" } : Jvm.MethodName)) ∈ lw_all := lw_g (lw_at lw_m4 89 rfl) rfl
theorem q949 : (Jvm.Cond.code ({ cls := "LockRail$Reader", name := "takesOnce", desc := "(Ljava/lang/String;Z)Z" } : Jvm.MethodName) prog_14_method_19_code (3 : Nat) (Option.some Jvm.ClassFile.FieldType.boolean)) ∈ lw_all := lw_g (lw_at lw_m4 90 rfl) rfl
theorem q950 : (Jvm.Cond.methodLink "LockRail$Reader" (264 : Nat) ({ cls := "LockRail$Reader", name := "mark", desc := "()V" } : Jvm.MethodName)) ∈ lw_all := lw_g (lw_at lw_m4 91 rfl) rfl
theorem q951 : (Jvm.Cond.privateMethod ({ cls := "LockRail$Reader", name := "mark", desc := "()V" } : Jvm.MethodName)) ∈ lw_tbl := lw_at lw_m4 92 rfl
theorem q952 : (Jvm.Cond.instanceMethod ({ cls := "LockRail$Reader", name := "mark", desc := "()V" } : Jvm.MethodName)) ∈ lw_all := lw_g (lw_at lw_m4 93 rfl) rfl
theorem q953 : (Jvm.Cond.code ({ cls := "LockRail$Reader", name := "mark", desc := "()V" } : Jvm.MethodName) prog_14_method_16_code (1 : Nat) (Option.none : Option Jvm.ClassFile.FieldType)) ∈ lw_all := lw_g (lw_at lw_m4 94 rfl) rfl
theorem q954 : (Jvm.Cond.stringRef "LockRail$Reader" (221 : Nat) "known") ∈ lw_tbl := lw_at lw_m4 95 rfl
theorem q955 : (Jvm.Cond.stringRef "LockRail$Reader" (225 : Nat) "hidden") ∈ lw_tbl := lw_at lw_m4 96 rfl
theorem q956 : (Jvm.Cond.stringRef "LockRail$Reader" (266 : Nat) "watch") ∈ lw_tbl := lw_at lw_m4 97 rfl
theorem q957 : (Jvm.Cond.methodLink "LockRail$Reader" (268 : Nat) ({ cls := "LockRail$Reader", name := "watch", desc := "()V" } : Jvm.MethodName)) ∈ lw_all := lw_g (lw_at lw_m4 98 rfl) rfl
theorem q958 : (Jvm.Cond.privateMethod ({ cls := "LockRail$Reader", name := "watch", desc := "()V" } : Jvm.MethodName)) ∈ lw_tbl := lw_at lw_m4 99 rfl
theorem q959 : (Jvm.Cond.instanceMethod ({ cls := "LockRail$Reader", name := "watch", desc := "()V" } : Jvm.MethodName)) ∈ lw_all := lw_g (lw_at lw_m4 100 rfl) rfl
theorem q960 : (Jvm.Cond.code ({ cls := "LockRail$Reader", name := "watch", desc := "()V" } : Jvm.MethodName) prog_14_method_17_code (1 : Nat) (Option.none : Option Jvm.ClassFile.FieldType)) ∈ lw_all := lw_g (lw_at lw_m4 101 rfl) rfl
theorem q961 : (Jvm.Cond.stringRef "LockRail$Reader" (233 : Nat) "wage") ∈ lw_tbl := lw_at lw_m4 102 rfl
theorem q962 : (Jvm.Cond.stringRef "LockRail$Reader" (237 : Nat) "adds") ∈ lw_tbl := lw_at lw_m4 103 rfl
theorem q2545 : (Jvm.Cond.castable "LockRail$Reader" "java/lang/Object") ∈ lw_tbl := lw_at lw_m11 6 rfl
theorem in_X7 : ∀ w ∈ wsX70, w ∈ lw_all := lw_in wsX70 [513, 515, 517, 519, 521, 523, 525] (by decide +kernel) (by decide +kernel)

/-! LockRail$Fault -/
set_option maxRecDepth 100000
def RX8 : String := "LockRail$Fault"
def TX8 : u_T := fun k => match k with
  | 0 => ("java/lang/Throwable", "cause", "Ljava/lang/Throwable;", false)
  | 1 => ("java/lang/Throwable", "stackTrace", "[Ljava/lang/StackTraceElement;", false)
  | 2 => ("java/lang/Throwable", "suppressedExceptions", "Ljava/util/List;", false)
  | 3 => ("java/lang/Throwable", "detailMessage", "Ljava/lang/String;", false)
  | 4 => ("java/lang/Throwable", "backtrace", "Ljava/lang/Object;", false)
  | 5 => ("java/lang/Throwable", "depth", "I", false)
  | 6 => ("LockRail$Fault", "kind", "I", true)
  | _ => ("LockRail$Fault", "place", "I", true)
def tyX8 : Nat → FieldType := fun k => match k with
  | 0 => .object "java/lang/Throwable"
  | 1 => .array (.object "java/lang/StackTraceElement")
  | 2 => .object "java/util/List"
  | 3 => .object "java/lang/String"
  | 4 => .object "java/lang/Object"
  | 5 => .int
  | 6 => .int
  | _ => .int
abbrev wsX80 : List Cond := u_ws RX8 TX8 8
theorem nmX8 : ∀ a, a < 8 → ∀ b, b < 8 → a ≠ b → (TX8 a).2.1 ≠ (TX8 b).2.1 := by decide +kernel
theorem tyX8_ok : ∀ k, k < 8 → parseFieldDescriptor (TX8 k).2.2.1 = some (tyX8 k) := by decide +kernel
abbrev cX8_init : ByteArray := prog_7_method_1_code
def yX8_init : MethodName := ⟨RX8, "<init>", "(II)V"⟩
def dkwX8_init_0 : List UInt8 := [42, 1, 1, 3, 3, 183, 0, 1, 42, 27, 181, 0, 7, 42, 28, 181, 0, 13, 177]
abbrev dktX8_init_0 : List UInt8 := dkwX8_init_0 ++ []
theorem dksX8_init_0 : cX8_init.data.toList.drop 0 = dktX8_init_0 := by decide +kernel
theorem dX8_init_0 : decode cX8_init 0 = .ok (.aload_n 0, 1) := dk_42 (dk_at dksX8_init_0 0 rfl rfl)
theorem dX8_init_1 : decode cX8_init 1 = .ok (.aconst_null, 1) := dk_1 (dk_at dksX8_init_0 1 rfl rfl)
theorem dX8_init_2 : decode cX8_init 2 = .ok (.aconst_null, 1) := dk_1 (dk_at dksX8_init_0 2 rfl rfl)
theorem dX8_init_3 : decode cX8_init 3 = .ok (.iconst 0, 1) := dk_3 (dk_at dksX8_init_0 3 rfl rfl)
theorem dX8_init_4 : decode cX8_init 4 = .ok (.iconst 0, 1) := dk_3 (dk_at dksX8_init_0 4 rfl rfl)
theorem dX8_init_5 : decode cX8_init 5 = .ok (.invokespecial 1, 3) := dk_183 0 1 (dk_at dksX8_init_0 5 rfl rfl)
theorem dX8_init_8 : decode cX8_init 8 = .ok (.aload_n 0, 1) := dk_42 (dk_at dksX8_init_0 8 rfl rfl)
theorem dX8_init_9 : decode cX8_init 9 = .ok (.iload_n 1, 1) := dk_27 (dk_at dksX8_init_0 9 rfl rfl)
theorem dX8_init_10 : decode cX8_init 10 = .ok (.putfield 7, 3) := dk_181 0 7 (dk_at dksX8_init_0 10 rfl rfl)
theorem dX8_init_13 : decode cX8_init 13 = .ok (.aload_n 0, 1) := dk_42 (dk_at dksX8_init_0 13 rfl rfl)
theorem dX8_init_14 : decode cX8_init 14 = .ok (.iload_n 2, 1) := dk_28 (dk_at dksX8_init_0 14 rfl rfl)
theorem dX8_init_15 : decode cX8_init 15 = .ok (.putfield 13, 3) := dk_181 0 13 (dk_at dksX8_init_0 15 rfl rfl)
theorem dX8_init_18 : decode cX8_init 18 = .ok (.return_, 1) := dk_177 (dk_at dksX8_init_0 18 rfl rfl)
theorem q160 : (Jvm.Cond.initialized "LockRail$Fault") ∈ lw_all := lw_g (lw_at lw_m1 21 rfl) rfl
theorem q602 : (Jvm.Cond.instantiable "LockRail$Fault" (8 : Nat)) ∈ lw_all := lw_g (lw_at lw_m2 223 rfl) rfl
theorem q603 : (Jvm.Cond.castable "LockRail$Fault" "LockRail$Fault") ∈ lw_tbl := lw_at lw_m2 224 rfl
theorem q608 : (Jvm.Cond.selects "LockRail$Fault" ({ cls := "java/lang/Throwable", name := "fillInStackTrace", desc := "(I)Ljava/lang/Throwable;" } : Jvm.MethodName) ({ cls := "java/lang/Throwable", name := "fillInStackTrace", desc := "(I)Ljava/lang/Throwable;" } : Jvm.MethodName)) ∈ lw_all := lw_g (lw_at lw_m2 229 rfl) rfl
theorem q609 : (Jvm.Cond.selects "LockRail$Fault" ({ cls := "java/lang/Throwable", name := "fillInStackTrace", desc := "()Ljava/lang/Throwable;" } : Jvm.MethodName) ({ cls := "java/lang/Throwable", name := "fillInStackTrace", desc := "()Ljava/lang/Throwable;" } : Jvm.MethodName)) ∈ lw_all := lw_g (lw_at lw_m2 230 rfl) rfl
theorem q610 : (Jvm.Cond.lays "LockRail$Fault" "java/lang/Throwable" "cause" "Ljava/lang/Throwable;") ∈ lw_all := lw_g (lw_at lw_m2 231 rfl) rfl
theorem q612 : (Jvm.Cond.lays "LockRail$Fault" "java/lang/Throwable" "stackTrace" "[Ljava/lang/StackTraceElement;") ∈ lw_all := lw_g (lw_at lw_m2 233 rfl) rfl
theorem q614 : (Jvm.Cond.lays "LockRail$Fault" "java/lang/Throwable" "suppressedExceptions" "Ljava/util/List;") ∈ lw_all := lw_g (lw_at lw_m2 235 rfl) rfl
theorem q616 : (Jvm.Cond.lays "LockRail$Fault" "java/lang/Throwable" "detailMessage" "Ljava/lang/String;") ∈ lw_all := lw_g (lw_at lw_m2 237 rfl) rfl
theorem q618 : (Jvm.Cond.lays "LockRail$Fault" "java/lang/Throwable" "backtrace" "Ljava/lang/Object;") ∈ lw_all := lw_g (lw_at lw_m2 239 rfl) rfl
theorem q656 : (Jvm.Cond.instanceMethod ({ cls := "LockRail$Fault", name := "<init>", desc := "(II)V" } : Jvm.MethodName)) ∈ lw_all := lw_g (lw_at lw_m3 37 rfl) rfl
theorem q657 : (Jvm.Cond.code ({ cls := "LockRail$Fault", name := "<init>", desc := "(II)V" } : Jvm.MethodName) prog_7_method_1_code (3 : Nat) (Option.none : Option Jvm.ClassFile.FieldType)) ∈ lw_all := lw_g (lw_at lw_m3 38 rfl) rfl
theorem q658 : (Jvm.Cond.methodLink "LockRail$Fault" (1 : Nat) ({ cls := "java/lang/Exception", name := "<init>", desc := "(Ljava/lang/String;Ljava/lang/Throwable;ZZ)V" } : Jvm.MethodName)) ∈ lw_all := lw_g (lw_at lw_m3 39 rfl) rfl
theorem q664 : (Jvm.Cond.fieldLink "LockRail$Fault" (7 : Nat) "LockRail$Fault" "kind" "I") ∈ lw_all := lw_g (lw_at lw_m3 45 rfl) rfl
theorem q666 : (Jvm.Cond.fieldLink "LockRail$Fault" (13 : Nat) "LockRail$Fault" "place" "I") ∈ lw_all := lw_g (lw_at lw_m3 47 rfl) rfl
theorem q673 : (Jvm.Cond.laysFinal "LockRail$Fault" "LockRail$Fault" "kind" "I") ∈ lw_all := lw_g (lw_at lw_m3 54 rfl) rfl
theorem q674 : (Jvm.Cond.soleField "LockRail$Fault" "kind") ∈ lw_all := lw_g (lw_at lw_m3 55 rfl) rfl
theorem q675 : (Jvm.Cond.laysFinal "LockRail$Fault" "LockRail$Fault" "place" "I") ∈ lw_all := lw_g (lw_at lw_m3 56 rfl) rfl
theorem q676 : (Jvm.Cond.soleField "LockRail$Fault" "place") ∈ lw_all := lw_g (lw_at lw_m3 57 rfl) rfl
theorem q681 : (Jvm.Cond.lays "LockRail$Fault" "java/lang/Throwable" "depth" "I") ∈ lw_all := lw_g (lw_at lw_m3 62 rfl) rfl
theorem q684 : (Jvm.Cond.superclass "LockRail$Fault" "java/lang/Exception") ∈ lw_all := lw_g (lw_at lw_m3 65 rfl) rfl
theorem q771 : (Jvm.Cond.selects "LockRail$Fault" ({ cls := "java/lang/Object", name := "getClass", desc := "()Ljava/lang/Class;" } : Jvm.MethodName) ({ cls := "java/lang/Object", name := "getClass", desc := "()Ljava/lang/Class;" } : Jvm.MethodName)) ∈ lw_all := lw_g (lw_at lw_m3 152 rfl) rfl
theorem q2547 : (Jvm.Cond.castable "LockRail$Fault" "java/lang/Object") ∈ lw_tbl := lw_at lw_m11 8 rfl
theorem in_X8 : ∀ w ∈ wsX80, w ∈ lw_all := lw_in wsX80 [610, 612, 614, 616, 618, 681, 673, 675] (by decide +kernel) (by decide +kernel)

/-! LockRail$Lamp -/
set_option maxRecDepth 100000
def RX9 : String := "LockRail$Lamp"
def TX9 : u_T := fun k => match k with
  | 0 => ("LockRail$Lamp", "at", "I", true)
  | _ => ("LockRail$Lamp", "bright", "I", true)
def tyX9 : Nat → FieldType := fun k => match k with
  | 0 => .int
  | _ => .int
abbrev wsX90 : List Cond := u_ws RX9 TX9 2
theorem nmX9 : ∀ a, a < 2 → ∀ b, b < 2 → a ≠ b → (TX9 a).2.1 ≠ (TX9 b).2.1 := by decide +kernel
theorem tyX9_ok : ∀ k, k < 2 → parseFieldDescriptor (TX9 k).2.2.1 = some (tyX9 k) := by decide +kernel
abbrev cX9_init : ByteArray := prog_10_method_1_code
def yX9_init : MethodName := ⟨RX9, "<init>", "(II)V"⟩
def dkwX9_init_0 : List UInt8 := [42, 183, 0, 1, 42, 27, 181, 0, 7, 42, 28, 181, 0, 13, 177]
abbrev dktX9_init_0 : List UInt8 := dkwX9_init_0 ++ []
theorem dksX9_init_0 : cX9_init.data.toList.drop 0 = dktX9_init_0 := by decide +kernel
theorem dX9_init_0 : decode cX9_init 0 = .ok (.aload_n 0, 1) := dk_42 (dk_at dksX9_init_0 0 rfl rfl)
theorem dX9_init_1 : decode cX9_init 1 = .ok (.invokespecial 1, 3) := dk_183 0 1 (dk_at dksX9_init_0 1 rfl rfl)
theorem dX9_init_4 : decode cX9_init 4 = .ok (.aload_n 0, 1) := dk_42 (dk_at dksX9_init_0 4 rfl rfl)
theorem dX9_init_5 : decode cX9_init 5 = .ok (.iload_n 1, 1) := dk_27 (dk_at dksX9_init_0 5 rfl rfl)
theorem dX9_init_6 : decode cX9_init 6 = .ok (.putfield 7, 3) := dk_181 0 7 (dk_at dksX9_init_0 6 rfl rfl)
theorem dX9_init_9 : decode cX9_init 9 = .ok (.aload_n 0, 1) := dk_42 (dk_at dksX9_init_0 9 rfl rfl)
theorem dX9_init_10 : decode cX9_init 10 = .ok (.iload_n 2, 1) := dk_28 (dk_at dksX9_init_0 10 rfl rfl)
theorem dX9_init_11 : decode cX9_init 11 = .ok (.putfield 13, 3) := dk_181 0 13 (dk_at dksX9_init_0 11 rfl rfl)
theorem dX9_init_14 : decode cX9_init 14 = .ok (.return_, 1) := dk_177 (dk_at dksX9_init_0 14 rfl rfl)
abbrev cX9_on : ByteArray := prog_10_method_2_code
def yX9_on : MethodName := ⟨RX9, "on", "(I)I"⟩
def dkwX9_on_0 : List UInt8 := [3, 42, 180, 0, 13, 27, 42, 180, 0, 7, 100, 184, 0, 16, 100, 184, 0, 22, 172]
abbrev dktX9_on_0 : List UInt8 := dkwX9_on_0 ++ []
theorem dksX9_on_0 : cX9_on.data.toList.drop 0 = dktX9_on_0 := by decide +kernel
theorem dX9_on_0 : decode cX9_on 0 = .ok (.iconst 0, 1) := dk_3 (dk_at dksX9_on_0 0 rfl rfl)
theorem dX9_on_1 : decode cX9_on 1 = .ok (.aload_n 0, 1) := dk_42 (dk_at dksX9_on_0 1 rfl rfl)
theorem dX9_on_2 : decode cX9_on 2 = .ok (.getfield 13, 3) := dk_180 0 13 (dk_at dksX9_on_0 2 rfl rfl)
theorem dX9_on_5 : decode cX9_on 5 = .ok (.iload_n 1, 1) := dk_27 (dk_at dksX9_on_0 5 rfl rfl)
theorem dX9_on_6 : decode cX9_on 6 = .ok (.aload_n 0, 1) := dk_42 (dk_at dksX9_on_0 6 rfl rfl)
theorem dX9_on_7 : decode cX9_on 7 = .ok (.getfield 7, 3) := dk_180 0 7 (dk_at dksX9_on_0 7 rfl rfl)
theorem dX9_on_10 : decode cX9_on 10 = .ok (.isub, 1) := dk_100 (dk_at dksX9_on_0 10 rfl rfl)
theorem dX9_on_11 : decode cX9_on 11 = .ok (.invokestatic 16, 3) := dk_184 0 16 (dk_at dksX9_on_0 11 rfl rfl)
theorem dX9_on_14 : decode cX9_on 14 = .ok (.isub, 1) := dk_100 (dk_at dksX9_on_0 14 rfl rfl)
theorem dX9_on_15 : decode cX9_on 15 = .ok (.invokestatic 22, 3) := dk_184 0 22 (dk_at dksX9_on_0 15 rfl rfl)
theorem dX9_on_18 : decode cX9_on 18 = .ok (.ireturn, 1) := dk_172 (dk_at dksX9_on_0 18 rfl rfl)
theorem q161 : (Jvm.Cond.initialized "LockRail$Lamp") ∈ lw_all := lw_g (lw_at lw_m1 22 rfl) rfl
theorem q718 : (Jvm.Cond.instantiable "LockRail$Lamp" (2 : Nat)) ∈ lw_all := lw_g (lw_at lw_m3 99 rfl) rfl
theorem q721 : (Jvm.Cond.instanceMethod ({ cls := "LockRail$Lamp", name := "<init>", desc := "(II)V" } : Jvm.MethodName)) ∈ lw_all := lw_g (lw_at lw_m3 102 rfl) rfl
theorem q722 : (Jvm.Cond.code ({ cls := "LockRail$Lamp", name := "<init>", desc := "(II)V" } : Jvm.MethodName) prog_10_method_1_code (3 : Nat) (Option.none : Option Jvm.ClassFile.FieldType)) ∈ lw_all := lw_g (lw_at lw_m3 103 rfl) rfl
theorem q723 : (Jvm.Cond.methodLink "LockRail$Lamp" (1 : Nat) ({ cls := "java/lang/Object", name := "<init>", desc := "()V" } : Jvm.MethodName)) ∈ lw_all := lw_g (lw_at lw_m3 104 rfl) rfl
theorem q724 : (Jvm.Cond.fieldLink "LockRail$Lamp" (7 : Nat) "LockRail$Lamp" "at" "I") ∈ lw_all := lw_g (lw_at lw_m3 105 rfl) rfl
theorem q725 : (Jvm.Cond.fieldLink "LockRail$Lamp" (13 : Nat) "LockRail$Lamp" "bright" "I") ∈ lw_all := lw_g (lw_at lw_m3 106 rfl) rfl
theorem q726 : (Jvm.Cond.laysFinal "LockRail$Lamp" "LockRail$Lamp" "at" "I") ∈ lw_all := lw_g (lw_at lw_m3 107 rfl) rfl
theorem q727 : (Jvm.Cond.soleField "LockRail$Lamp" "at") ∈ lw_all := lw_g (lw_at lw_m3 108 rfl) rfl
theorem q728 : (Jvm.Cond.laysFinal "LockRail$Lamp" "LockRail$Lamp" "bright" "I") ∈ lw_all := lw_g (lw_at lw_m3 109 rfl) rfl
theorem q729 : (Jvm.Cond.soleField "LockRail$Lamp" "bright") ∈ lw_all := lw_g (lw_at lw_m3 110 rfl) rfl
theorem q730 : (Jvm.Cond.superclass "LockRail$Lamp" "java/lang/Object") ∈ lw_all := lw_g (lw_at lw_m3 111 rfl) rfl
theorem q774 : (Jvm.Cond.selects "LockRail$Lamp" ({ cls := "java/lang/Object", name := "getClass", desc := "()Ljava/lang/Class;" } : Jvm.MethodName) ({ cls := "java/lang/Object", name := "getClass", desc := "()Ljava/lang/Class;" } : Jvm.MethodName)) ∈ lw_all := lw_g (lw_at lw_m3 155 rfl) rfl
theorem q981 : (Jvm.Cond.instanceMethod ({ cls := "LockRail$Lamp", name := "on", desc := "(I)I" } : Jvm.MethodName)) ∈ lw_all := lw_g (lw_at lw_m4 122 rfl) rfl
theorem q982 : (Jvm.Cond.selects "LockRail$Lamp" ({ cls := "LockRail$Lamp", name := "on", desc := "(I)I" } : Jvm.MethodName) ({ cls := "LockRail$Lamp", name := "on", desc := "(I)I" } : Jvm.MethodName)) ∈ lw_all := lw_g (lw_at lw_m4 123 rfl) rfl
theorem q983 : (Jvm.Cond.code ({ cls := "LockRail$Lamp", name := "on", desc := "(I)I" } : Jvm.MethodName) prog_10_method_2_code (2 : Nat) (Option.some Jvm.ClassFile.FieldType.int)) ∈ lw_all := lw_g (lw_at lw_m4 124 rfl) rfl
theorem q984 : (Jvm.Cond.methodLink "LockRail$Lamp" (16 : Nat) ({ cls := "java/lang/Math", name := "abs", desc := "(I)I" } : Jvm.MethodName)) ∈ lw_all := lw_g (lw_at lw_m4 125 rfl) rfl
theorem q987 : (Jvm.Cond.methodLink "LockRail$Lamp" (22 : Nat) ({ cls := "java/lang/Math", name := "max", desc := "(II)I" } : Jvm.MethodName)) ∈ lw_all := lw_g (lw_at lw_m4 128 rfl) rfl
theorem q2548 : (Jvm.Cond.castable "LockRail$Lamp" "java/lang/Object") ∈ lw_tbl := lw_at lw_m11 9 rfl
theorem in_X9 : ∀ w ∈ wsX90, w ∈ lw_all := lw_in wsX90 [726, 728] (by decide +kernel) (by decide +kernel)

theorem q139 : (Jvm.Cond.initialized "LockRailLaw") ∈ lw_all := lw_g (lw_at lw_m1 0 rfl) rfl
set_option maxRecDepth 100000
theorem q181 : (Jvm.Cond.classLink "LockRailLaw" (7 : Nat) "LockRail") ∈ lw_all := lw_g (lw_at lw_m1 42 rfl) rfl
theorem q183 : (Jvm.Cond.methodLink "LockRailLaw" (9 : Nat) ({ cls := "LockRail", name := "<init>", desc := "()V" } : Jvm.MethodName)) ∈ lw_all := lw_g (lw_at lw_m1 44 rfl) rfl
theorem q455 : (Jvm.Cond.methodLink "LockRailLaw" (13 : Nat) ({ cls := "LockRail", name := "feed", desc := "(IIIII)I" } : Jvm.MethodName)) ∈ lw_all := lw_g (lw_at lw_m2 76 rfl) rfl
theorem q463 : (Jvm.Cond.methodLink "LockRailLaw" (18 : Nat) ({ cls := "LockRail", name := "end", desc := "(I)I" } : Jvm.MethodName)) ∈ lw_all := lw_g (lw_at lw_m2 84 rfl) rfl
theorem q470 : (Jvm.Cond.methodLink "LockRailLaw" (23 : Nat) ({ cls := "LockRail", name := "rail", desc := "()I" } : Jvm.MethodName)) ∈ lw_all := lw_g (lw_at lw_m2 91 rfl) rfl
theorem q963 : (Jvm.Cond.methodLink "LockRailLaw" (28 : Nat) ({ cls := "LockRail", name := "fault", desc := "(I)I" } : Jvm.MethodName)) ∈ lw_all := lw_g (lw_at lw_m4 104 rfl) rfl
theorem q967 : (Jvm.Cond.methodLink "LockRailLaw" (32 : Nat) ({ cls := "LockRail", name := "light", desc := "(I)I" } : Jvm.MethodName)) ∈ lw_all := lw_g (lw_at lw_m4 108 rfl) rfl
theorem q990 : (Jvm.Cond.methodLink "LockRailLaw" (36 : Nat) ({ cls := "LockRail", name := "bike", desc := "(II)I" } : Jvm.MethodName)) ∈ lw_all := lw_g (lw_at lw_m4 131 rfl) rfl
theorem q1001 : (Jvm.Cond.methodLink "LockRailLaw" (41 : Nat) ({ cls := "LockRail", name := "trouble", desc := "(II)I" } : Jvm.MethodName)) ∈ lw_all := lw_g (lw_at lw_m4 142 rfl) rfl
theorem q1021 : (Jvm.Cond.methodLink "LockRailLaw" (45 : Nat) ({ cls := "LockRail", name := "gain", desc := "(I)I" } : Jvm.MethodName)) ∈ lw_all := lw_g (lw_at lw_m4 162 rfl) rfl
theorem q1034 : (Jvm.Cond.methodLink "LockRailLaw" (49 : Nat) ({ cls := "LockRail", name := "takes", desc := "(II)I" } : Jvm.MethodName)) ∈ lw_all := lw_g (lw_at lw_m4 175 rfl) rfl
theorem q1077 : (Jvm.Cond.methodLink "LockRailLaw" (53 : Nat) ({ cls := "LockRail", name := "wants", desc := "(I)I" } : Jvm.MethodName)) ∈ lw_all := lw_g (lw_at lw_m4 218 rfl) rfl
theorem q1081 : (Jvm.Cond.methodLink "LockRailLaw" (57 : Nat) ({ cls := "LockRail", name := "part", desc := "(I)J" } : Jvm.MethodName)) ∈ lw_all := lw_g (lw_at lw_m4 222 rfl) rfl
theorem q1119 : (Jvm.Cond.methodLink "LockRailLaw" (62 : Nat) ({ cls := "LockRail", name := "many", desc := "(I)J" } : Jvm.MethodName)) ∈ lw_all := lw_g (lw_at lw_m5 20 rfl) rfl
theorem q1129 : (Jvm.Cond.methodLink "LockRailLaw" (66 : Nat) ({ cls := "LockRail", name := "risk", desc := "(I)J" } : Jvm.MethodName)) ∈ lw_all := lw_g (lw_at lw_m5 30 rfl) rfl
theorem q1138 : (Jvm.Cond.methodLink "LockRailLaw" (70 : Nat) ({ cls := "LockRail", name := "has", desc := "(II)J" } : Jvm.MethodName)) ∈ lw_all := lw_g (lw_at lw_m5 39 rfl) rfl
theorem q1143 : (Jvm.Cond.methodLink "LockRailLaw" (75 : Nat) ({ cls := "LockRail", name := "cost", desc := "(II)J" } : Jvm.MethodName)) ∈ lw_all := lw_g (lw_at lw_m5 44 rfl) rfl
theorem q1172 : (Jvm.Cond.methodLink "LockRailLaw" (79 : Nat) ({ cls := "LockRail", name := "all", desc := "(I)J" } : Jvm.MethodName)) ∈ lw_all := lw_g (lw_at lw_m5 73 rfl) rfl
theorem q1180 : (Jvm.Cond.methodLink "LockRailLaw" (83 : Nat) ({ cls := "LockRail", name := "option", desc := "(II)I" } : Jvm.MethodName)) ∈ lw_all := lw_g (lw_at lw_m5 81 rfl) rfl
theorem q1200 : (Jvm.Cond.methodLink "LockRailLaw" (87 : Nat) ({ cls := "LockRail", name := "would", desc := "(II)J" } : Jvm.MethodName)) ∈ lw_all := lw_g (lw_at lw_m5 101 rfl) rfl
theorem q1208 : (Jvm.Cond.methodLink "LockRailLaw" (91 : Nat) ({ cls := "LockRail", name := "best", desc := "(I)I" } : Jvm.MethodName)) ∈ lw_all := lw_g (lw_at lw_m5 109 rfl) rfl
theorem q1216 : (Jvm.Cond.methodLink "LockRailLaw" (95 : Nat) ({ cls := "LockRail", name := "restless", desc := "()I" } : Jvm.MethodName)) ∈ lw_all := lw_g (lw_at lw_m5 117 rfl) rfl
theorem q1224 : (Jvm.Cond.methodLink "LockRailLaw" (99 : Nat) ({ cls := "LockRail", name := "settle", desc := "(I)I" } : Jvm.MethodName)) ∈ lw_all := lw_g (lw_at lw_m5 125 rfl) rfl
theorem q1237 : (Jvm.Cond.methodLink "LockRailLaw" (103 : Nat) ({ cls := "LockRail", name := "settles", desc := "()I" } : Jvm.MethodName)) ∈ lw_all := lw_g (lw_at lw_m5 138 rfl) rfl
theorem q1249 : (Jvm.Cond.methodLink "LockRailLaw" (107 : Nat) ({ cls := "LockRail", name := "settled", desc := "()J" } : Jvm.MethodName)) ∈ lw_all := lw_g (lw_at lw_m5 150 rfl) rfl
theorem q1254 : (Jvm.Cond.methodLink "LockRailLaw" (112 : Nat) ({ cls := "LockRail", name := "better", desc := "(I)I" } : Jvm.MethodName)) ∈ lw_all := lw_g (lw_at lw_m5 155 rfl) rfl
theorem q1267 : (Jvm.Cond.methodLink "LockRailLaw" (116 : Nat) ({ cls := "LockRail", name := "good", desc := "()J" } : Jvm.MethodName)) ∈ lw_all := lw_g (lw_at lw_m5 168 rfl) rfl
theorem q1271 : (Jvm.Cond.methodLink "LockRailLaw" (120 : Nat) ({ cls := "LockRail", name := "pair", desc := "(II)I" } : Jvm.MethodName)) ∈ lw_all := lw_g (lw_at lw_m5 172 rfl) rfl
theorem q1279 : (Jvm.Cond.methodLink "LockRailLaw" (124 : Nat) ({ cls := "LockRail", name := "wasted", desc := "()J" } : Jvm.MethodName)) ∈ lw_all := lw_g (lw_at lw_m5 180 rfl) rfl
theorem q1284 : (Jvm.Cond.methodLink "LockRailLaw" (128 : Nat) ({ cls := "LockRail", name := "beside", desc := "(III)J" } : Jvm.MethodName)) ∈ lw_all := lw_g (lw_at lw_m5 185 rfl) rfl
theorem q1292 : (Jvm.Cond.methodLink "LockRailLaw" (133 : Nat) ({ cls := "LockRail", name := "worse", desc := "(II)I" } : Jvm.MethodName)) ∈ lw_all := lw_g (lw_at lw_m5 193 rfl) rfl
theorem q1296 : (Jvm.Cond.methodLink "LockRailLaw" (137 : Nat) ({ cls := "LockRail", name := "next", desc := "(II)I" } : Jvm.MethodName)) ∈ lw_all := lw_g (lw_at lw_m5 197 rfl) rfl
theorem q1300 : (Jvm.Cond.methodLink "LockRailLaw" (141 : Nat) ({ cls := "LockRail", name := "move", desc := "(II)I" } : Jvm.MethodName)) ∈ lw_all := lw_g (lw_at lw_m5 201 rfl) rfl
theorem q1305 : (Jvm.Cond.methodLink "LockRailLaw" (145 : Nat) ({ cls := "LockRail", name := "swap", desc := "(II)I" } : Jvm.MethodName)) ∈ lw_all := lw_g (lw_at lw_m5 206 rfl) rfl
theorem q1309 : (Jvm.Cond.methodLink "LockRailLaw" (149 : Nat) ({ cls := "LockRail", name := "where", desc := "(I)I" } : Jvm.MethodName)) ∈ lw_all := lw_g (lw_at lw_m5 210 rfl) rfl
theorem q1313 : (Jvm.Cond.methodLink "LockRailLaw" (153 : Nat) ({ cls := "LockRail", name := "lamp", desc := "(I)I" } : Jvm.MethodName)) ∈ lw_all := lw_g (lw_at lw_m5 214 rfl) rfl
theorem q1322 : (Jvm.Cond.methodLink "LockRailLaw" (157 : Nat) ({ cls := "LockRail", name := "lit", desc := "(II)J" } : Jvm.MethodName)) ∈ lw_all := lw_g (lw_at lw_m5 223 rfl) rfl
theorem q1326 : (Jvm.Cond.methodLink "LockRailLaw" (161 : Nat) ({ cls := "LockRail", name := "watch", desc := "(Z)I" } : Jvm.MethodName)) ∈ lw_all := lw_g (lw_at lw_m5 227 rfl) rfl
theorem q1330 : (Jvm.Cond.methodLink "LockRailLaw" (166 : Nat) ({ cls := "LockRail", name := "penny", desc := "()J" } : Jvm.MethodName)) ∈ lw_all := lw_g (lw_at lw_m5 231 rfl) rfl
theorem q1338 : (Jvm.Cond.methodLink "LockRailLaw" (170 : Nat) ({ cls := "LockRail", name := "enough", desc := "()I" } : Jvm.MethodName)) ∈ lw_all := lw_g (lw_at lw_m5 239 rfl) rfl
theorem q1343 : (Jvm.Cond.methodLink "LockRailLaw" (174 : Nat) ({ cls := "LockRail", name := "marks", desc := "()I" } : Jvm.MethodName)) ∈ lw_all := lw_g (lw_at lw_m6 4 rfl) rfl
theorem q1355 : (Jvm.Cond.methodLink "LockRailLaw" (178 : Nat) ({ cls := "LockRail", name := "hides", desc := "(I)J" } : Jvm.MethodName)) ∈ lw_all := lw_g (lw_at lw_m6 16 rfl) rfl
theorem q1359 : (Jvm.Cond.methodLink "LockRailLaw" (182 : Nat) ({ cls := "LockRail", name := "bait", desc := "(III)J" } : Jvm.MethodName)) ∈ lw_all := lw_g (lw_at lw_m6 20 rfl) rfl
theorem q1439 : (Jvm.Cond.methodLink "LockRailLaw" (186 : Nat) ({ cls := "LockRail", name := "caught", desc := "(IIII)J" } : Jvm.MethodName)) ∈ lw_all := lw_g (lw_at lw_m6 100 rfl) rfl
theorem q1447 : (Jvm.Cond.methodLink "LockRailLaw" (191 : Nat) ({ cls := "LockRail", name := "lures", desc := "(I)I" } : Jvm.MethodName)) ∈ lw_all := lw_g (lw_at lw_m6 108 rfl) rfl
theorem q1455 : (Jvm.Cond.methodLink "LockRailLaw" (195 : Nat) ({ cls := "LockRail", name := "cover", desc := "(III)J" } : Jvm.MethodName)) ∈ lw_all := lw_g (lw_at lw_m6 116 rfl) rfl
theorem q1472 : (Jvm.Cond.methodLink "LockRailLaw" (199 : Nat) ({ cls := "LockRail", name := "careless", desc := "(III)I" } : Jvm.MethodName)) ∈ lw_all := lw_g (lw_at lw_m6 133 rfl) rfl
theorem q1476 : (Jvm.Cond.methodLink "LockRailLaw" (204 : Nat) ({ cls := "LockRail", name := "law", desc := "(I)J" } : Jvm.MethodName)) ∈ lw_all := lw_g (lw_at lw_m6 137 rfl) rfl
theorem q1485 : (Jvm.Cond.methodLink "LockRailLaw" (208 : Nat) ({ cls := "LockRail", name := "laws", desc := "()I" } : Jvm.MethodName)) ∈ lw_all := lw_g (lw_at lw_m6 146 rfl) rfl
theorem q1489 : (Jvm.Cond.methodLink "LockRailLaw" (212 : Nat) ({ cls := "LockRail", name := "rather", desc := "(II)I" } : Jvm.MethodName)) ∈ lw_all := lw_g (lw_at lw_m6 150 rfl) rfl
theorem q1496 : (Jvm.Cond.methodLink "LockRailLaw" (216 : Nat) ({ cls := "LockRail", name := "run", desc := "(I)I" } : Jvm.MethodName)) ∈ lw_all := lw_g (lw_at lw_m6 157 rfl) rfl
theorem q1543 : (Jvm.Cond.methodLink "LockRailLaw" (220 : Nat) ({ cls := "LockRail", name := "told", desc := "(I)I" } : Jvm.MethodName)) ∈ lw_all := lw_g (lw_at lw_m6 204 rfl) rfl
theorem q1592 : (Jvm.Cond.methodLink "LockRailLaw" (224 : Nat) ({ cls := "LockRail", name := "taken", desc := "(I)I" } : Jvm.MethodName)) ∈ lw_all := lw_g (lw_at lw_m7 13 rfl) rfl
theorem q1596 : (Jvm.Cond.methodLink "LockRailLaw" (228 : Nat) ({ cls := "LockRail", name := "took", desc := "(I)I" } : Jvm.MethodName)) ∈ lw_all := lw_g (lw_at lw_m7 17 rfl) rfl
theorem q1600 : (Jvm.Cond.methodLink "LockRailLaw" (232 : Nat) ({ cls := "LockRail", name := "years", desc := "(III)J" } : Jvm.MethodName)) ∈ lw_all := lw_g (lw_at lw_m7 21 rfl) rfl
theorem q1613 : (Jvm.Cond.methodLink "LockRailLaw" (236 : Nat) ({ cls := "LockRail", name := "count", desc := "(I)I" } : Jvm.MethodName)) ∈ lw_all := lw_g (lw_at lw_m7 34 rfl) rfl
theorem q1618 : (Jvm.Cond.methodLink "LockRailLaw" (240 : Nat) ({ cls := "LockRail", name := "keep", desc := "(I)I" } : Jvm.MethodName)) ∈ lw_all := lw_g (lw_at lw_m7 39 rfl) rfl
theorem q1655 : (Jvm.Cond.methodLink "LockRailLaw" (244 : Nat) ({ cls := "LockRail", name := "back", desc := "(I)I" } : Jvm.MethodName)) ∈ lw_all := lw_g (lw_at lw_m7 76 rfl) rfl
theorem q1659 : (Jvm.Cond.methodLink "LockRailLaw" (248 : Nat) ({ cls := "LockRail", name := "row", desc := "(III)I" } : Jvm.MethodName)) ∈ lw_all := lw_g (lw_at lw_m7 80 rfl) rfl
theorem q1695 : (Jvm.Cond.methodLink "LockRailLaw" (254 : Nat) ({ cls := "LockRail", name := "write", desc := "(IIJ)I" } : Jvm.MethodName)) ∈ lw_all := lw_g (lw_at lw_m7 116 rfl) rfl
theorem q1722 : (Jvm.Cond.methodLink "LockRailLaw" (259 : Nat) ({ cls := "LockRail", name := "paste", desc := "(IIIII)I" } : Jvm.MethodName)) ∈ lw_all := lw_g (lw_at lw_m7 143 rfl) rfl
theorem q1742 : (Jvm.Cond.classLink "LockRailLaw" (10 : Nat) "LockRailModel") ∈ lw_all := lw_g (lw_at lw_m7 163 rfl) rfl
theorem q1744 : (Jvm.Cond.methodLink "LockRailLaw" (12 : Nat) ({ cls := "LockRailModel", name := "<init>", desc := "()V" } : Jvm.MethodName)) ∈ lw_all := lw_g (lw_at lw_m7 165 rfl) rfl
theorem q1904 : (Jvm.Cond.methodLink "LockRailLaw" (251 : Nat) ({ cls := "LockRailModel", name := "row", desc := "(III)I" } : Jvm.MethodName)) ∈ lw_all := lw_g (lw_at lw_m8 85 rfl) rfl
theorem q1915 : (Jvm.Cond.methodLink "LockRailLaw" (258 : Nat) ({ cls := "LockRailModel", name := "write", desc := "(IIJ)I" } : Jvm.MethodName)) ∈ lw_all := lw_g (lw_at lw_m8 96 rfl) rfl
theorem q1922 : (Jvm.Cond.methodLink "LockRailLaw" (262 : Nat) ({ cls := "LockRailModel", name := "paste", desc := "(IIIII)I" } : Jvm.MethodName)) ∈ lw_all := lw_g (lw_at lw_m8 103 rfl) rfl
theorem q1926 : (Jvm.Cond.methodLink "LockRailLaw" (17 : Nat) ({ cls := "LockRailModel", name := "feed", desc := "(IIIII)I" } : Jvm.MethodName)) ∈ lw_all := lw_g (lw_at lw_m8 107 rfl) rfl
theorem q1934 : (Jvm.Cond.methodLink "LockRailLaw" (22 : Nat) ({ cls := "LockRailModel", name := "end", desc := "(I)I" } : Jvm.MethodName)) ∈ lw_all := lw_g (lw_at lw_m8 115 rfl) rfl
theorem q1938 : (Jvm.Cond.methodLink "LockRailLaw" (31 : Nat) ({ cls := "LockRailModel", name := "fault", desc := "(I)I" } : Jvm.MethodName)) ∈ lw_all := lw_g (lw_at lw_m8 119 rfl) rfl
theorem q1942 : (Jvm.Cond.methodLink "LockRailLaw" (27 : Nat) ({ cls := "LockRailModel", name := "rail", desc := "()I" } : Jvm.MethodName)) ∈ lw_all := lw_g (lw_at lw_m8 123 rfl) rfl
theorem q2068 : (Jvm.Cond.methodLink "LockRailLaw" (35 : Nat) ({ cls := "LockRailModel", name := "light", desc := "(I)I" } : Jvm.MethodName)) ∈ lw_all := lw_g (lw_at lw_m9 9 rfl) rfl
theorem q2086 : (Jvm.Cond.methodLink "LockRailLaw" (40 : Nat) ({ cls := "LockRailModel", name := "bike", desc := "(II)I" } : Jvm.MethodName)) ∈ lw_all := lw_g (lw_at lw_m9 27 rfl) rfl
theorem q2098 : (Jvm.Cond.methodLink "LockRailLaw" (44 : Nat) ({ cls := "LockRailModel", name := "trouble", desc := "(II)I" } : Jvm.MethodName)) ∈ lw_all := lw_g (lw_at lw_m9 39 rfl) rfl
theorem q2111 : (Jvm.Cond.methodLink "LockRailLaw" (48 : Nat) ({ cls := "LockRailModel", name := "gain", desc := "(I)I" } : Jvm.MethodName)) ∈ lw_all := lw_g (lw_at lw_m9 52 rfl) rfl
theorem q2123 : (Jvm.Cond.methodLink "LockRailLaw" (52 : Nat) ({ cls := "LockRailModel", name := "takes", desc := "(II)I" } : Jvm.MethodName)) ∈ lw_all := lw_g (lw_at lw_m9 64 rfl) rfl
theorem q2135 : (Jvm.Cond.methodLink "LockRailLaw" (56 : Nat) ({ cls := "LockRailModel", name := "wants", desc := "(I)I" } : Jvm.MethodName)) ∈ lw_all := lw_g (lw_at lw_m9 76 rfl) rfl
theorem q2143 : (Jvm.Cond.methodLink "LockRailLaw" (61 : Nat) ({ cls := "LockRailModel", name := "part", desc := "(I)J" } : Jvm.MethodName)) ∈ lw_all := lw_g (lw_at lw_m9 84 rfl) rfl
theorem q2161 : (Jvm.Cond.methodLink "LockRailLaw" (65 : Nat) ({ cls := "LockRailModel", name := "many", desc := "(I)J" } : Jvm.MethodName)) ∈ lw_all := lw_g (lw_at lw_m9 102 rfl) rfl
theorem q2168 : (Jvm.Cond.methodLink "LockRailLaw" (69 : Nat) ({ cls := "LockRailModel", name := "risk", desc := "(I)J" } : Jvm.MethodName)) ∈ lw_all := lw_g (lw_at lw_m9 109 rfl) rfl
theorem q2180 : (Jvm.Cond.methodLink "LockRailLaw" (74 : Nat) ({ cls := "LockRailModel", name := "has", desc := "(II)J" } : Jvm.MethodName)) ∈ lw_all := lw_g (lw_at lw_m9 121 rfl) rfl
theorem q2184 : (Jvm.Cond.methodLink "LockRailLaw" (78 : Nat) ({ cls := "LockRailModel", name := "cost", desc := "(II)J" } : Jvm.MethodName)) ∈ lw_all := lw_g (lw_at lw_m9 125 rfl) rfl
theorem q2211 : (Jvm.Cond.methodLink "LockRailLaw" (82 : Nat) ({ cls := "LockRailModel", name := "all", desc := "(I)J" } : Jvm.MethodName)) ∈ lw_all := lw_g (lw_at lw_m9 152 rfl) rfl
theorem q2219 : (Jvm.Cond.methodLink "LockRailLaw" (86 : Nat) ({ cls := "LockRailModel", name := "option", desc := "(II)I" } : Jvm.MethodName)) ∈ lw_all := lw_g (lw_at lw_m9 160 rfl) rfl
theorem q2239 : (Jvm.Cond.methodLink "LockRailLaw" (90 : Nat) ({ cls := "LockRailModel", name := "would", desc := "(II)J" } : Jvm.MethodName)) ∈ lw_all := lw_g (lw_at lw_m9 180 rfl) rfl
theorem q2251 : (Jvm.Cond.methodLink "LockRailLaw" (94 : Nat) ({ cls := "LockRailModel", name := "best", desc := "(I)I" } : Jvm.MethodName)) ∈ lw_all := lw_g (lw_at lw_m9 192 rfl) rfl
theorem q2259 : (Jvm.Cond.methodLink "LockRailLaw" (98 : Nat) ({ cls := "LockRailModel", name := "restless", desc := "()I" } : Jvm.MethodName)) ∈ lw_all := lw_g (lw_at lw_m9 200 rfl) rfl
theorem q2263 : (Jvm.Cond.methodLink "LockRailLaw" (102 : Nat) ({ cls := "LockRailModel", name := "settle", desc := "(I)I" } : Jvm.MethodName)) ∈ lw_all := lw_g (lw_at lw_m9 204 rfl) rfl
theorem q2276 : (Jvm.Cond.methodLink "LockRailLaw" (106 : Nat) ({ cls := "LockRailModel", name := "settles", desc := "()I" } : Jvm.MethodName)) ∈ lw_all := lw_g (lw_at lw_m9 217 rfl) rfl
theorem q2288 : (Jvm.Cond.methodLink "LockRailLaw" (111 : Nat) ({ cls := "LockRailModel", name := "settled", desc := "()J" } : Jvm.MethodName)) ∈ lw_all := lw_g (lw_at lw_m9 229 rfl) rfl
theorem q2292 : (Jvm.Cond.methodLink "LockRailLaw" (115 : Nat) ({ cls := "LockRailModel", name := "better", desc := "(I)I" } : Jvm.MethodName)) ∈ lw_all := lw_g (lw_at lw_m9 233 rfl) rfl
theorem q2305 : (Jvm.Cond.methodLink "LockRailLaw" (119 : Nat) ({ cls := "LockRailModel", name := "good", desc := "()J" } : Jvm.MethodName)) ∈ lw_all := lw_g (lw_at lw_m10 6 rfl) rfl
theorem q2309 : (Jvm.Cond.methodLink "LockRailLaw" (123 : Nat) ({ cls := "LockRailModel", name := "pair", desc := "(II)I" } : Jvm.MethodName)) ∈ lw_all := lw_g (lw_at lw_m10 10 rfl) rfl
theorem q2317 : (Jvm.Cond.methodLink "LockRailLaw" (127 : Nat) ({ cls := "LockRailModel", name := "wasted", desc := "()J" } : Jvm.MethodName)) ∈ lw_all := lw_g (lw_at lw_m10 18 rfl) rfl
theorem q2322 : (Jvm.Cond.methodLink "LockRailLaw" (132 : Nat) ({ cls := "LockRailModel", name := "beside", desc := "(III)J" } : Jvm.MethodName)) ∈ lw_all := lw_g (lw_at lw_m10 23 rfl) rfl
theorem q2330 : (Jvm.Cond.methodLink "LockRailLaw" (136 : Nat) ({ cls := "LockRailModel", name := "worse", desc := "(II)I" } : Jvm.MethodName)) ∈ lw_all := lw_g (lw_at lw_m10 31 rfl) rfl
theorem q2334 : (Jvm.Cond.methodLink "LockRailLaw" (140 : Nat) ({ cls := "LockRailModel", name := "next", desc := "(II)I" } : Jvm.MethodName)) ∈ lw_all := lw_g (lw_at lw_m10 35 rfl) rfl
theorem q2338 : (Jvm.Cond.methodLink "LockRailLaw" (144 : Nat) ({ cls := "LockRailModel", name := "move", desc := "(II)I" } : Jvm.MethodName)) ∈ lw_all := lw_g (lw_at lw_m10 39 rfl) rfl
theorem q2346 : (Jvm.Cond.methodLink "LockRailLaw" (148 : Nat) ({ cls := "LockRailModel", name := "swap", desc := "(II)I" } : Jvm.MethodName)) ∈ lw_all := lw_g (lw_at lw_m10 47 rfl) rfl
theorem q2350 : (Jvm.Cond.methodLink "LockRailLaw" (152 : Nat) ({ cls := "LockRailModel", name := "where", desc := "(I)I" } : Jvm.MethodName)) ∈ lw_all := lw_g (lw_at lw_m10 51 rfl) rfl
theorem q2354 : (Jvm.Cond.methodLink "LockRailLaw" (156 : Nat) ({ cls := "LockRailModel", name := "lamp", desc := "(I)I" } : Jvm.MethodName)) ∈ lw_all := lw_g (lw_at lw_m10 55 rfl) rfl
theorem q2366 : (Jvm.Cond.methodLink "LockRailLaw" (160 : Nat) ({ cls := "LockRailModel", name := "lit", desc := "(II)J" } : Jvm.MethodName)) ∈ lw_all := lw_g (lw_at lw_m10 67 rfl) rfl
theorem q2370 : (Jvm.Cond.methodLink "LockRailLaw" (165 : Nat) ({ cls := "LockRailModel", name := "watch", desc := "(Z)I" } : Jvm.MethodName)) ∈ lw_all := lw_g (lw_at lw_m10 71 rfl) rfl
theorem q2374 : (Jvm.Cond.methodLink "LockRailLaw" (169 : Nat) ({ cls := "LockRailModel", name := "penny", desc := "()J" } : Jvm.MethodName)) ∈ lw_all := lw_g (lw_at lw_m10 75 rfl) rfl
theorem q2382 : (Jvm.Cond.methodLink "LockRailLaw" (173 : Nat) ({ cls := "LockRailModel", name := "enough", desc := "()I" } : Jvm.MethodName)) ∈ lw_all := lw_g (lw_at lw_m10 83 rfl) rfl
theorem q2386 : (Jvm.Cond.methodLink "LockRailLaw" (177 : Nat) ({ cls := "LockRailModel", name := "marks", desc := "()I" } : Jvm.MethodName)) ∈ lw_all := lw_g (lw_at lw_m10 87 rfl) rfl
theorem q2398 : (Jvm.Cond.methodLink "LockRailLaw" (181 : Nat) ({ cls := "LockRailModel", name := "hides", desc := "(I)J" } : Jvm.MethodName)) ∈ lw_all := lw_g (lw_at lw_m10 99 rfl) rfl
theorem q2402 : (Jvm.Cond.methodLink "LockRailLaw" (185 : Nat) ({ cls := "LockRailModel", name := "bait", desc := "(III)J" } : Jvm.MethodName)) ∈ lw_all := lw_g (lw_at lw_m10 103 rfl) rfl
theorem q2422 : (Jvm.Cond.methodLink "LockRailLaw" (190 : Nat) ({ cls := "LockRailModel", name := "caught", desc := "(IIII)J" } : Jvm.MethodName)) ∈ lw_all := lw_g (lw_at lw_m10 123 rfl) rfl
theorem q2426 : (Jvm.Cond.methodLink "LockRailLaw" (194 : Nat) ({ cls := "LockRailModel", name := "lures", desc := "(I)I" } : Jvm.MethodName)) ∈ lw_all := lw_g (lw_at lw_m10 127 rfl) rfl
theorem q2430 : (Jvm.Cond.methodLink "LockRailLaw" (198 : Nat) ({ cls := "LockRailModel", name := "cover", desc := "(III)J" } : Jvm.MethodName)) ∈ lw_all := lw_g (lw_at lw_m10 131 rfl) rfl
theorem q2442 : (Jvm.Cond.methodLink "LockRailLaw" (203 : Nat) ({ cls := "LockRailModel", name := "careless", desc := "(III)I" } : Jvm.MethodName)) ∈ lw_all := lw_g (lw_at lw_m10 143 rfl) rfl
theorem q2446 : (Jvm.Cond.methodLink "LockRailLaw" (207 : Nat) ({ cls := "LockRailModel", name := "law", desc := "(I)J" } : Jvm.MethodName)) ∈ lw_all := lw_g (lw_at lw_m10 147 rfl) rfl
theorem q2454 : (Jvm.Cond.methodLink "LockRailLaw" (211 : Nat) ({ cls := "LockRailModel", name := "laws", desc := "()I" } : Jvm.MethodName)) ∈ lw_all := lw_g (lw_at lw_m10 155 rfl) rfl
theorem q2458 : (Jvm.Cond.methodLink "LockRailLaw" (215 : Nat) ({ cls := "LockRailModel", name := "rather", desc := "(II)I" } : Jvm.MethodName)) ∈ lw_all := lw_g (lw_at lw_m10 159 rfl) rfl
theorem q2466 : (Jvm.Cond.methodLink "LockRailLaw" (219 : Nat) ({ cls := "LockRailModel", name := "run", desc := "(I)I" } : Jvm.MethodName)) ∈ lw_all := lw_g (lw_at lw_m10 167 rfl) rfl
theorem q2502 : (Jvm.Cond.methodLink "LockRailLaw" (223 : Nat) ({ cls := "LockRailModel", name := "told", desc := "(I)I" } : Jvm.MethodName)) ∈ lw_all := lw_g (lw_at lw_m10 203 rfl) rfl
theorem q2506 : (Jvm.Cond.methodLink "LockRailLaw" (227 : Nat) ({ cls := "LockRailModel", name := "taken", desc := "(I)I" } : Jvm.MethodName)) ∈ lw_all := lw_g (lw_at lw_m10 207 rfl) rfl
theorem q2510 : (Jvm.Cond.methodLink "LockRailLaw" (231 : Nat) ({ cls := "LockRailModel", name := "took", desc := "(I)I" } : Jvm.MethodName)) ∈ lw_all := lw_g (lw_at lw_m10 211 rfl) rfl
theorem q2514 : (Jvm.Cond.methodLink "LockRailLaw" (235 : Nat) ({ cls := "LockRailModel", name := "years", desc := "(III)J" } : Jvm.MethodName)) ∈ lw_all := lw_g (lw_at lw_m10 215 rfl) rfl
theorem q2518 : (Jvm.Cond.methodLink "LockRailLaw" (239 : Nat) ({ cls := "LockRailModel", name := "count", desc := "(I)I" } : Jvm.MethodName)) ∈ lw_all := lw_g (lw_at lw_m10 219 rfl) rfl
theorem q2522 : (Jvm.Cond.methodLink "LockRailLaw" (243 : Nat) ({ cls := "LockRailModel", name := "keep", desc := "(I)I" } : Jvm.MethodName)) ∈ lw_all := lw_g (lw_at lw_m10 223 rfl) rfl
theorem q2526 : (Jvm.Cond.methodLink "LockRailLaw" (247 : Nat) ({ cls := "LockRailModel", name := "back", desc := "(I)I" } : Jvm.MethodName)) ∈ lw_all := lw_g (lw_at lw_m10 227 rfl) rfl
theorem q2530 : (Jvm.Cond.constantLong "LockRailLaw" (252 : Nat) (4294967295 : Int64)) ∈ lw_all := lw_g (lw_at lw_m10 231 rfl) rfl

theorem q152 : (Jvm.Cond.initialized "LockRail$Token") ∈ lw_all := lw_g (lw_at lw_m1 13 rfl) rfl
set_option maxRecDepth 100000
theorem q484 : (Jvm.Cond.laysStatic "LockRail$Token" "END" "LLockRail$Token;") ∈ lw_tbl := lw_at lw_m2 105 rfl
theorem q495 : (Jvm.Cond.laysStatic "LockRail$Token" "WORD" "LLockRail$Token;") ∈ lw_tbl := lw_at lw_m2 116 rfl
theorem q501 : (Jvm.Cond.laysStatic "LockRail$Token" "NUMBER" "LLockRail$Token;") ∈ lw_tbl := lw_at lw_m2 122 rfl
theorem q503 : (Jvm.Cond.laysStatic "LockRail$Token" "STOP" "LLockRail$Token;") ∈ lw_tbl := lw_at lw_m2 124 rfl
theorem q505 : (Jvm.Cond.laysStatic "LockRail$Token" "NONE" "LLockRail$Token;") ∈ lw_tbl := lw_at lw_m2 126 rfl
theorem q780 : (Jvm.Cond.selects "LockRail$Token" ({ cls := "java/lang/Object", name := "getClass", desc := "()Ljava/lang/Class;" } : Jvm.MethodName) ({ cls := "java/lang/Object", name := "getClass", desc := "()Ljava/lang/Class;" } : Jvm.MethodName)) ∈ lw_all := lw_g (lw_at lw_m3 161 rfl) rfl
theorem q2546 : (Jvm.Cond.castable "LockRail$Token" "java/lang/Object") ∈ lw_tbl := lw_at lw_m11 7 rfl

theorem q2568 : (Jvm.Cond.castable "[B" "java/lang/Object") ∈ lw_tbl := lw_at lw_m11 29 rfl
set_option maxRecDepth 100000

theorem q2567 : (Jvm.Cond.castable "[I" "java/lang/Object") ∈ lw_tbl := lw_at lw_m11 28 rfl
set_option maxRecDepth 100000

theorem q2566 : (Jvm.Cond.castable "[J" "java/lang/Object") ∈ lw_tbl := lw_at lw_m11 27 rfl
set_option maxRecDepth 100000

theorem q2570 : (Jvm.Cond.castable "[LLockRail$Image;" "java/lang/Object") ∈ lw_tbl := lw_at lw_m11 31 rfl
set_option maxRecDepth 100000

theorem q2569 : (Jvm.Cond.castable "[LLockRail$Slot;" "java/lang/Object") ∈ lw_tbl := lw_at lw_m11 30 rfl
set_option maxRecDepth 100000

theorem q2562 : (Jvm.Cond.sameMethod "[Ljava/lang/Object;" "java/lang/Object" "getClass" "()Ljava/lang/Class;") ∈ lw_all := lw_g (lw_at lw_m11 23 rfl) rfl
set_option maxRecDepth 100000
theorem q2563 : (Jvm.Cond.selects "[Ljava/lang/Object;" ({ cls := "java/lang/Object", name := "getClass", desc := "()Ljava/lang/Class;" } : Jvm.MethodName) ({ cls := "java/lang/Object", name := "getClass", desc := "()Ljava/lang/Class;" } : Jvm.MethodName)) ∈ lw_all := lw_g (lw_at lw_m11 24 rfl) rfl
theorem q2565 : (Jvm.Cond.castable "[Ljava/lang/Object;" "java/lang/Object") ∈ lw_tbl := lw_at lw_m11 26 rfl

theorem q2571 : (Jvm.Cond.castable "[S" "java/lang/Object") ∈ lw_tbl := lw_at lw_m11 32 rfl
set_option maxRecDepth 100000

theorem q2572 : (Jvm.Cond.castable "[Z" "java/lang/Object") ∈ lw_tbl := lw_at lw_m11 33 rfl
set_option maxRecDepth 100000

theorem q151 : (Jvm.Cond.initialized "java/lang/Enum") ∈ lw_all := lw_g (lw_at lw_m1 12 rfl) rfl
set_option maxRecDepth 100000

theorem q164 : (Jvm.Cond.initialized "java/lang/System") ∈ lw_all := lw_g (lw_at lw_m1 25 rfl) rfl
set_option maxRecDepth 100000
theorem q796 : (Jvm.Cond.static ({ cls := "java/lang/System", name := "arraycopy", desc := "(Ljava/lang/Object;ILjava/lang/Object;II)V" } : Jvm.MethodName)) ∈ lw_all := lw_g (lw_at lw_m3 177 rfl) rfl
theorem q797 : (Jvm.Cond.native ({ cls := "java/lang/System", name := "arraycopy", desc := "(Ljava/lang/Object;ILjava/lang/Object;II)V" } : Jvm.MethodName)) ∈ lw_all := lw_g (lw_at lw_m3 178 rfl) rfl

theorem q1634 : (Jvm.Cond.interfaceMethod "java/util/Collection" "java/util/Collection" "toArray" "()[Ljava/lang/Object;") ∈ lw_tbl := lw_at lw_m7 55 rfl
set_option maxRecDepth 100000
theorem q1635 : (Jvm.Cond.declares ({ cls := "java/util/Collection", name := "toArray", desc := "()[Ljava/lang/Object;" } : Jvm.MethodName)) ∈ lw_tbl := lw_at lw_m7 56 rfl

theorem q208 : (Jvm.Cond.arrayOver (Jvm.ClassFile.FieldType.object "java/lang/Object")) ∈ lw_tbl := lw_at lw_m1 69 rfl
set_option maxRecDepth 100000
theorem q346 : (Jvm.Cond.arrayClass Jvm.ClassFile.FieldType.long) ∈ lw_all := lw_g (lw_at lw_m1 207 rfl) rfl
theorem q347 : (Jvm.Cond.arrayClass Jvm.ClassFile.FieldType.int) ∈ lw_all := lw_g (lw_at lw_m1 208 rfl) rfl
theorem q374 : (Jvm.Cond.arrayClass Jvm.ClassFile.FieldType.byte) ∈ lw_all := lw_g (lw_at lw_m1 235 rfl) rfl
theorem q376 : (Jvm.Cond.arrayOver (Jvm.ClassFile.FieldType.object "LockRail$Slot")) ∈ lw_tbl := lw_at lw_m1 237 rfl
theorem q388 : (Jvm.Cond.arrayOver (Jvm.ClassFile.FieldType.object "LockRail$Image")) ∈ lw_tbl := lw_at lw_m2 9 rfl
theorem q1694 : (Jvm.Cond.arrayClass Jvm.ClassFile.FieldType.short) ∈ lw_all := lw_g (lw_at lw_m7 115 rfl) rfl
theorem q1903 : (Jvm.Cond.arrayClass Jvm.ClassFile.FieldType.boolean) ∈ lw_all := lw_g (lw_at lw_m8 84 rfl) rfl
